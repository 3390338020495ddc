set_option maxRecDepth 100000
/-! conditions in the model, whole -/
section RB
variable {l : Launch} {G : GG} {d b z : Nat} {h : AH} {Q : Option Value → AH → Prop} {S : SS} {n m : Nat}
theorem cOne_s {f : Nat} (hd : 8 ≤ d) (ro : RdO S n) (h0 : COne l G d b z h Q S n m f) (h3 : CAny l G d b z h Q S n m f) : COne l G d b z h Q S n m (f + 1) := by
  intro k E P o B S1 h1' J hA hm hf ho hlen hfu hld hF hK
  have hkn : k ≤ n := hA.1.2.2.2.2.1
  have hA0 := hA
  unfold A9
  refine X.cut _ J rfl ?_
  refine X.w wkX3_readAny (fcons (ceV k_settles mmV1 ckX3_234 rfl mrV1 (by omega) rfl) (fcons (ceV k_readCompared mmW0 ckX3_231 rfl mrW0 (by omega) rfl) (fcons (ceV k_reads mmV0 ckX3_203 rfl mrV0 (by omega) rfl) (fcons (ceV k_waits mmV1 ckX3_228 rfl mrV1 (by omega) rfl) (fcons (ceV k_errs mmW1 ckX3_197 rfl mrW1 (by omega) rfl) (fcons (ceV k_isSign mmR1 ckX3_210 rfl mrR1 (by omega) rfl) (fcons (ceV k_isWord mmR1 ckX3_225 rfl mrR1 (by omega) rfl) fnil))))))) [9] 38 rfl ?_
  refine And.intro (fun b10 => ?_) (fun b10 => ?_)
  · simp only [cP, cN, bI_0, Bool.not_eq_false, lt_nle, Decidable.not_not] at b10
    exact absurd b10 (by decide)
  · simp only [cP, cN, bI_0, Bool.not_eq_false, lt_nle, Decidable.not_not] at b10
    refine Exists.intro _ (Exists.intro () (And.intro hm (And.intro trivial ?_)))
    intro v15 e15
    subst e15
    refine And.intro (fun b20 => ?_) (fun b20 => ?_)
    · simp only [cP, cN, bI_0, Bool.not_eq_false, lt_nle, Decidable.not_not] at b20
      rw [hA0.1.wd] at b20
      have hK0 : ¬ tK (S 8) n k = 0 := by rw [(wrd_K b20).1]; decide
      have hadv := tN_adv hkn hK0
      refine gF (by first | assumption | exact hm.obj | exact hm.arr _ rfl) ?_
      refine And.intro (fun b38 => ?_) (fun b38 => ?_)
      · simp only [cP, cN, bI_0, Bool.not_eq_false, lt_nle, Decidable.not_not] at b38
        have ho8 : ¬ o = 8 := fun q => b38 (by rw [hA0.2.2.1, q]; rfl)
        refine gF (by first | assumption | exact hm.obj | exact hm.arr _ rfl) ?_
        refine pF0 (okV_W rfl) (by first | assumption | exact hm.obj | exact hm.arr _ rfl) (Nat.le_of_ble_eq_true rfl) (by first | exact hm.N | exact hm.No _) ?_
        intro h54 e54
        have hm := hm.u0 e54 rfl; have hf := hf.u0 e54
        replace hm : IsMod G b (up2 S1 0 33 (S1 0 33 + 1)) h54 := hm
        rw [hA0.2.2.1, nI_1] at hm
        have hA := hA0.opn (o' := o + 1)
        refine And.intro (fun b58 => ?_) (fun b58 => ?_)
        · simp only [cP, cN, bI_0, Bool.not_eq_false, lt_nle, Decidable.not_not] at b58
          refine And.intro (fun b67 => ?_) (fun b67 => ?_)
          · simp only [cP, cN, bI_0, Bool.not_eq_false, lt_nle, Decidable.not_not] at b67
            rw [hA0.1.wd, b20] at b67
            exact nomatch b67
          · simp only [cP, cN, bI_0, Bool.not_eq_false, lt_nle, Decidable.not_not] at b67
            refine Exists.intro _ (Exists.intro P.length (And.intro hm (And.intro ⟨hA.2.1.1, by omega⟩ ?_)))
            intro S77 h77 p77 hm hf77
            have hf := hf.tr hf77
            (try dsimp only at p77)
            subst p77
            refine Exists.intro _ (Exists.intro (tN (S 8) n k, n) (And.intro hm (And.intro ⟨hA.1.pos, hadv.2, ro.fa ((hA.1.up (Or.inl rfl)).up (Or.inr ⟨rfl, Or.inr rfl⟩)).1⟩ ?_)))
            intro S81 h81 p81 hm hf81
            have hf := hf.tr hf81
            (try dsimp only at p81)
            obtain ⟨f81, rfl, hFO, hTk⟩ := p81
            replace hA := hA.pushR (x := 9) hK0 hFO hTk
            have e9 : ldn 9 (9 :: P) = ldn 9 P + 1 := by show (if (9 : Int32) = 9 then _ else 0) = _; rw [if_pos rfl]
            refine h0 (tN (S 8) n k) E (9 :: P) (o + 1) B _ _ [(3, .int (bI (wordM S1 4)))] hA hm hf (by omega) (by show P.length + 1 + _ ≤ 35; omega) (by omega) (by rw [e9]; omega) (fun e he => hF e (by rw [pC, if_pos b20, if_neg ho8, he])) ?_
            intro c k2 hc hkk S2 h2 J2 hA2 hm2 hf2
            rw [e9] at hA2
            have e1 : (9 :: P).drop (ldn 9 P + 1) = P.drop (ldn 9 P) := rfl
            have e2 : E ++ c ++ rep 9 (ldn 9 P + 1) = E ++ (c ++ [(9, 0)]) ++ rep 9 (ldn 9 P) := by rw [← rep_cons, ← List.append_assoc, ← List.append_assoc]
            rw [e1, e2, show o + 1 - (ldn 9 P + 1) = o - ldn 9 P from by omega] at hA2
            exact hK (c ++ [(9, 0)]) k2 (by rw [pC, if_pos b20, if_neg ho8, hc]) (by omega) S2 h2 J2 hA2 hm2 hf2
        · simp only [cP, cN, bI_0, Bool.not_eq_false, lt_nle, Decidable.not_not] at b58
          rw [hA0.1.wd, b20] at b58
          exact nomatch b58
      · simp only [cP, cN, bI_0, Bool.not_eq_false, lt_nle, Decidable.not_not] at b38
        have ho8 : o = 8 := (nI_eq (by omega) (by decide)).mp (hA0.2.2.1.symm.trans b38)
        refine Exists.intro _ (Exists.intro () (And.intro hm (And.intro trivial ?_)))
        intro v43 S43 h43 p43 hm hf43
        have hf := hf.tr hf43
        (try dsimp only at p43)
        obtain ⟨rfl, rfl⟩ := p43
        exact And.intro (hF _ (by rw [pC, if_pos b20, if_pos ho8]) _ _ hA0.1.err hm hf) rfl
    · simp only [cP, cN, bI_0, Bool.not_eq_false, lt_nle, Decidable.not_not] at b20
      rw [hA0.1.wd] at b20
      refine Exists.intro _ (Exists.intro () (And.intro hm (And.intro trivial ?_)))
      intro v26 e26
      subst e26
      refine And.intro (fun b29 => ?_) (fun b29 => ?_)
      · simp only [cP, cN, bI_0, Bool.not_eq_false, lt_nle, Decidable.not_not] at b29
        rw [hA0.1.sg] at b29
        refine Exists.intro _ (Exists.intro (k, n, m + E.length) (And.intro hm (And.intro (hA0.1.p ro) ?_)))
        intro v88 S88 h88 p88 hm hf88
        have hf := hf.tr hf88
        (try dsimp only at p88)
        rw [hA0.1.1.e8] at p88
        refine And.intro (fun b92 => ?_) (fun b92 => ?_)
        · simp only [cP, cN, bI_0, Bool.not_eq_false, lt_nle, Decidable.not_not] at b92
          obtain ⟨dd, k2, hu, p88⟩ := p88.ok b92
          have hg := pCmp_g hkn dd k2 hu
          obtain ⟨hv88, hS⟩ := hA0.1.call p88 hg.1 hg.2.1 hg.2.2.1
          have hA : AS n m (E ++ dd) k2 P.length P o S S88 := ⟨hS, hA0.2.1.eq (p88.1.2.1 35 rfl) (p88.1.1 15 (by decide) (by decide) (by decide)), (p88.1.2.1 33 rfl).trans hA0.2.2.1, Nat.le_refl _⟩
          refine Exists.intro _ (Exists.intro (9, P, m + (E ++ dd).length, o) (And.intro hm (And.intro (hA.p ro 9 (by decide) (by omega) (fun _ => hld)) ?_)))
          intro S100 h100 p100 hm hf100
          have hf := hf.tr hf100
          (try dsimp only at p100)
          have hA := hA.settle p100
          rw [if_pos rfl] at hA
          exact hK dd k2 (by rw [pC, if_neg (by rw [b20]; decide), if_neg (by rw [b29]; decide)]; exact hu) hg.1 _ _ [(3, .int (bI (wordM S1 4)))] (hA.less (by rw [List.length_drop]; exact Nat.le_refl _) (Nat.le_refl _)) hm hf
        · simp only [cP, cN, bI_0, Bool.not_eq_false, lt_nle, Decidable.not_not] at b92
          obtain ⟨e, hu, p88⟩ := p88.no b92
          obtain ⟨hv88, hq⟩ := hA0.1.fail p88
          exact And.intro (hF e (by rw [pC, if_neg (by rw [b20]; decide), if_neg (by rw [b29]; decide)]; exact hu) _ _ hq hm hf) rfl
      · simp only [cP, cN, bI_0, Bool.not_eq_false, lt_nle, Decidable.not_not] at b29
        rw [hA0.1.sg] at b29
        have hK0 : ¬ tK (S 8) n k = 0 := by rw [(sgn_K b29).1]; decide
        have hadv := tN_adv hkn hK0
        refine gF (by first | assumption | exact hm.obj | exact hm.arr _ rfl) ?_
        refine And.intro (fun b38 => ?_) (fun b38 => ?_)
        · simp only [cP, cN, bI_0, Bool.not_eq_false, lt_nle, Decidable.not_not] at b38
          have ho8 : ¬ o = 8 := fun q => b38 (by rw [hA0.2.2.1, q]; rfl)
          refine gF (by first | assumption | exact hm.obj | exact hm.arr _ rfl) ?_
          refine pF0 (okV_W rfl) (by first | assumption | exact hm.obj | exact hm.arr _ rfl) (Nat.le_of_ble_eq_true rfl) (by first | exact hm.N | exact hm.No _) ?_
          intro h54 e54
          have hm := hm.u0 e54 rfl; have hf := hf.u0 e54
          replace hm : IsMod G b (up2 S1 0 33 (S1 0 33 + 1)) h54 := hm
          rw [hA0.2.2.1, nI_1] at hm
          have hA := hA0.opn (o' := o + 1)
          refine And.intro (fun b58 => ?_) (fun b58 => ?_)
          · simp only [cP, cN, bI_0, Bool.not_eq_false, lt_nle, Decidable.not_not] at b58
            rw [hA0.1.wd, b20] at b58
            exact nomatch b58
          · simp only [cP, cN, bI_0, Bool.not_eq_false, lt_nle, Decidable.not_not] at b58
            refine And.intro (fun b67 => ?_) (fun b67 => ?_)
            · simp only [cP, cN, bI_0, Bool.not_eq_false, lt_nle, Decidable.not_not] at b67
              refine Exists.intro _ (Exists.intro P.length (And.intro hm (And.intro ⟨hA.2.1.1, by omega⟩ ?_)))
              intro S77 h77 p77 hm hf77
              have hf := hf.tr hf77
              (try dsimp only at p77)
              subst p77
              refine Exists.intro _ (Exists.intro (tN (S 8) n k, n) (And.intro hm (And.intro ⟨hA.1.pos, hadv.2, ro.fa ((hA.1.up (Or.inl rfl)).up (Or.inr ⟨rfl, Or.inr rfl⟩)).1⟩ ?_)))
              intro S81 h81 p81 hm hf81
              have hf := hf.tr hf81
              (try dsimp only at p81)
              obtain ⟨f81, rfl, hFO, hTk⟩ := p81
              replace hA := hA.pushR (x := 12) hK0 hFO hTk
              have e9 : ldn 9 (12 :: P) = 0 := by show (if (12 : Int32) = 9 then _ else 0) = _; rw [if_neg (by decide)]
              have e10 : ldn 10 (12 :: P) = 0 := by show (if (12 : Int32) = 10 then _ else 0) = _; rw [if_neg (by decide)]
              have e11 : ldn 11 (12 :: P) = 0 := by show (if (12 : Int32) = 11 then _ else 0) = _; rw [if_neg (by decide)]
              have h8 : A9 l G d b z Q 9 1 (B + 1) h81 [(3, .int (bI (wordM S1 4)))] := by
                refine h3 (tN (S 8) n k) E (12 :: P) (o + 1) (B + 1) _ _ _ e9 e10 e11 hA hm hf (by omega) (by show P.length + 1 + _ ≤ 33; omega) (by omega) (fun e he => hF e (by rw [pC, if_neg (by rw [b20]; decide), if_pos b29, if_neg ho8, he])) ?_
                intro c k2 hc hkk S2 h2 J2 hA2 hm2 hf2
                unfold A9
                refine X.cut _ J2 rfl ?_
                have e35 : S2 0 35 = nI (P.length + 1) := hA2.2.1.1
                have hne : ¬ nI (B + 1) = 0 := nI_ne0 (by omega) (by omega)
                have hk2n : k2 ≤ n := hA2.1.2.2.2.2.1
                have hm := hm2
                have hf := hf2
                refine X.w wkX3_readAny (fcons (ceV k_settles mmV1 ckX3_234 rfl mrV1 (by omega) rfl) (fcons (ceV k_readCompared mmW0 ckX3_231 rfl mrW0 (by omega) rfl) (fcons (ceV k_reads mmV0 ckX3_203 rfl mrV0 (by omega) rfl) (fcons (ceV k_waits mmV1 ckX3_228 rfl mrV1 (by omega) rfl) (fcons (ceV k_errs mmW1 ckX3_197 rfl mrW1 (by omega) rfl) (fcons (ceV k_isSign mmR1 ckX3_210 rfl mrR1 (by omega) rfl) (fcons (ceV k_isWord mmR1 ckX3_225 rfl mrR1 (by omega) rfl) fnil))))))) [9] 30 rfl ?_
                refine And.intro (fun b185 => ?_) (fun b185 => ?_)
                · simp only [cP, cN, bI_0, Bool.not_eq_false, lt_nle, Decidable.not_not] at b185
                  refine Exists.intro _ (Exists.intro () (And.intro hm (And.intro trivial ?_)))
                  intro v193 e193
                  subst e193
                  refine And.intro (fun b196 => ?_) (fun b196 => ?_)
                  · simp only [cP, cN, bI_0, Bool.not_eq_false, lt_nle, Decidable.not_not] at b196
                    rw [hA2.1.sg] at b196
                    have hK2 : ¬ tK (S 8) n k2 = 0 := by rw [(sgn_K b196).1]; decide
                    have hadv2 := tN_adv hk2n hK2
                    have hA := hA2
                    refine gF (by first | assumption | exact hm.obj | exact hm.arr _ rfl) ?_
                    refine pF0 (okV_W rfl) (by first | assumption | exact hm.obj | exact hm.arr _ rfl) (Nat.le_of_ble_eq_true rfl) (by first | exact hm.N | exact hm.No _) ?_
                    intro h212 e212
                    have hm := hm.u0 e212 rfl; have hf := hf.u0 e212
                    replace hm : IsMod G b (up2 S2 0 35 (S2 0 35 - 1)) h212 := hm
                    rw [e35, nI_pred] at hm
                    replace hA := hA.pop
                    refine gF (by first | assumption | exact hm.obj | exact hm.arr _ rfl) ?_
                    refine pF0 (okV_W rfl) (by first | assumption | exact hm.obj | exact hm.arr _ rfl) (Nat.le_of_ble_eq_true rfl) (by first | exact hm.N | exact hm.No _) ?_
                    intro h226 e226
                    have hm := hm.u0 e226 rfl; have hf := hf.u0 e226
                    replace hm : IsMod G b (up2 (up2 S2 0 35 (nI P.length)) 0 33 (up2 S2 0 35 (nI P.length) 0 33 - 1)) h226 := hm
                    rw [show up2 S2 0 35 (nI P.length) 0 33 = nI (o + 1) from hA2.2.2.1, nI_pred] at hm
                    replace hA := hA.opn (o' := o)
                    refine Exists.intro _ (Exists.intro (9, P, m + (E ++ c).length, o) (And.intro hm (And.intro (hA.p ro 9 (by decide) (by omega) (fun _ => hld)) ?_)))
                    intro S232 h232 p232 hm hf232
                    have hf := hf.tr hf232
                    (try dsimp only at p232)
                    have hA := hA.settle p232
                    rw [if_pos rfl] at hA
                    refine Exists.intro _ (Exists.intro (tN (S 8) n k2, n) (And.intro hm (And.intro ⟨hA.1.pos, hadv2.2, ro.fa hA.1.1⟩ ?_)))
                    intro S236 h236 p236 hm hf236
                    have hf := hf.tr hf236
                    (try dsimp only at p236)
                    obtain ⟨f236, rfl, hFO2, hTk2⟩ := p236
                    replace hA := hA.read hK2 hFO2 hTk2
                    have h9 := hK c (tN (S 8) n k2) (by rw [pC, if_neg (by rw [b20]; decide), if_pos b29, if_neg ho8, hc]; dsimp only; rw [if_pos b196]) (by omega) _ _ [] (hA.less (by rw [List.length_drop]; show P.length - ldn 9 P ≤ P.length + 1 - ldn 9 P + 1; omega) (Nat.le_refl _)) hm hf
                    unfold A9 at h9
                    rw [← nI_pred B] at h9
                    exact h9
                  · simp only [cP, cN, bI_0, Bool.not_eq_false, lt_nle, Decidable.not_not] at b196
                    rw [hA2.1.sg] at b196
                    refine Exists.intro _ (Exists.intro () (And.intro hm (And.intro trivial ?_)))
                    intro v201 S201 h201 p201 hm hf201
                    have hf := hf.tr hf201
                    (try dsimp only at p201)
                    obtain ⟨rfl, rfl⟩ := p201
                    exact And.intro (hF _ (by rw [pC, if_neg (by rw [b20]; decide), if_pos b29, if_neg ho8, hc]; dsimp only; rw [if_neg (by rw [b196]; decide)]) _ _ hA2.1.err hm hf) rfl
                · simp only [cP, cN, bI_0, Bool.not_eq_false, lt_nle, Decidable.not_not] at b185
                  exact absurd b185 hne
              unfold A9 at h8
              rw [← nI_1 B] at h8
              exact h8
            · simp only [cP, cN, bI_0, Bool.not_eq_false, lt_nle, Decidable.not_not] at b67
              rw [hA0.1.wd, b20] at b67
              exact nomatch b67
        · simp only [cP, cN, bI_0, Bool.not_eq_false, lt_nle, Decidable.not_not] at b38
          have ho8 : o = 8 := (nI_eq (by omega) (by decide)).mp (hA0.2.2.1.symm.trans b38)
          refine Exists.intro _ (Exists.intro () (And.intro hm (And.intro trivial ?_)))
          intro v43 S43 h43 p43 hm hf43
          have hf := hf.tr hf43
          (try dsimp only at p43)
          obtain ⟨rfl, rfl⟩ := p43
          exact And.intro (hF _ (by rw [pC, if_neg (by rw [b20]; decide), if_pos b29, if_pos ho8]) _ _ hA0.1.err hm hf) rfl
theorem cAll_ok (hd : 8 ≤ d) (ro : RdO S n) : ∀ f, COne l G d b z h Q S n m f ∧ CAllL l G d b z h Q S n m f ∧ CAll l G d b z h Q S n m f ∧ CAnyL l G d b z h Q S n m f ∧ CAny l G d b z h Q S n m f
  | 0 => by
    refine ⟨?_, ?_, ?_, ?_, ?_⟩
    · intro k E P o B S1 h1 J hA hm hf ho hl hfu; omega
    · intro k E acc E1 Q' P1 o B S1 h1 J hr l9 l10 hA hm hf ho hl hfu; omega
    · intro k E Q' o B S1 h1 J l9 l10 hA hm hf ho hl hfu; omega
    · intro k E acc Y E1 Qb Q' P1 o B S1 h1 J q1 q2 q3 q4 q5 q6 q7 hA hm hf ho hl hfu; omega
    · intro k E Qb o B S1 h1 J q1 q2 q3 hA hm hf ho hl hfu; omega
  | f + 1 => by
    obtain ⟨c0, c1, c2, c3, c4⟩ := cAll_ok hd ro f
    exact ⟨cOne_s hd ro c0 c4, cAllL_s hd ro c0 c1, cAll_s c0 c1, cAnyL_s hd ro c2 c3, cAny_s c2 c3⟩
end RB
/-- a condition read -/
def pAny (t : Nat → Int32) (n k : Nat) : PR := pC t n (4 * n + 8) 3 0 [] k
theorem k_readAny : CtS mX3_readAny 8 (mW0 (fun (a : Nat × Nat × Nat) S => RdP S a.1 a.2.1 a.2.2 ∧ S 0 33 = 0) (fun (a : Nat × Nat × Nat) S v S' => RaQ (pAny (S 8) a.2.1 a.1) S a.2.1 a.2.2 v S' ∧ (v = 0 → S' 0 33 = 0))) := by
  intro l G d hd as h z Q hs
  match as, hs with
  | [.ref b], hs =>
    obtain ⟨S, a, hm, hp, hs⟩ := hs
    replace hp : RdP S a.1 a.2.1 a.2.2 ∧ S 0 33 = 0 := hp
    replace hs : ∀ v S' h', (RaQ (pAny (S 8) a.2.1 a.1) S a.2.1 a.2.2 v S' ∧ (v = 0 → S' 0 33 = 0)) → IsMod G b S' h' → FrM b h h' → Q (some (.int v)) h' := hs
    have hf : FrM b h h := FrM.rf
    refine Ct.of rfl (Nat.le_of_ble_eq_true rfl) rfl ?_
    obtain ⟨k, n, m⟩ := a
    dsimp only at hp hs
    obtain ⟨⟨hd0, ro⟩, h33⟩ := hp
    have hc := (cAll_ok (l := l) (G := G) (d := d) (b := b) (z := z) (h := h) (Q := Q) (S := S) (n := n) (m := m) hd ro (4 * n + 8)).2.2.2.2
    refine X.w wkX3_readAny (fcons (ceV k_settles mmV1 ckX3_234 rfl mrV1 (by omega) rfl) (fcons (ceV k_readCompared mmW0 ckX3_231 rfl mrW0 (by omega) rfl) (fcons (ceV k_reads mmV0 ckX3_203 rfl mrV0 (by omega) rfl) (fcons (ceV k_waits mmV1 ckX3_228 rfl mrV1 (by omega) rfl) (fcons (ceV k_errs mmW1 ckX3_197 rfl mrW1 (by omega) rfl) (fcons (ceV k_isSign mmR1 ckX3_210 rfl mrR1 (by omega) rfl) (fcons (ceV k_isWord mmR1 ckX3_225 rfl mrR1 (by omega) rfl) fnil))))))) [9] 9 rfl ?_
    refine pF0 (okV_W rfl) (by first | assumption | exact hm.obj | exact hm.arr _ rfl) (Nat.le_of_ble_eq_true rfl) (by first | exact hm.N | exact hm.No _) ?_
    intro h4 e4
    have hm := hm.u0 e4 rfl; have hf := hf.u0 e4
    have hA : AS n m [] k 0 [] 0 S (up2 S 0 35 0) := by
      refine ⟨Sa.up (S1 := S) ⟨RFa.rf, hd0.2.1, hd0.2.2.1, CodeAt.nil, hd0.2.2.2.2.1, hd0.2.2.2.2.2⟩ (Or.inr ⟨rfl, Or.inr rfl⟩), ⟨rfl, fun j x hj => by simp at hj⟩, h33, Nat.le_refl _⟩
    refine hc k [] [] 0 0 _ _ [] rfl rfl rfl hA hm hf (by omega) (by decide) (by omega) (fun e he S' h' hq hm hf => hs _ _ _ ⟨by unfold pAny; rw [he]; exact hq, fun q => absurd q (by decide)⟩ hm hf) (fun c k2 hc2 hkk S2 h2 J2 hA2 hm2 hf2 => ?_)
    unfold A9
    refine X.cut _ J2 rfl ?_
    refine X.w wkX3_readAny (fcons (ceV k_settles mmV1 ckX3_234 rfl mrV1 (by omega) rfl) (fcons (ceV k_readCompared mmW0 ckX3_231 rfl mrW0 (by omega) rfl) (fcons (ceV k_reads mmV0 ckX3_203 rfl mrV0 (by omega) rfl) (fcons (ceV k_waits mmV1 ckX3_228 rfl mrV1 (by omega) rfl) (fcons (ceV k_errs mmW1 ckX3_197 rfl mrW1 (by omega) rfl) (fcons (ceV k_isSign mmR1 ckX3_210 rfl mrR1 (by omega) rfl) (fcons (ceV k_isWord mmR1 ckX3_225 rfl mrR1 (by omega) rfl) fnil))))))) [9] 5 rfl ?_
    refine And.intro (fun b185 => ?_) (fun b185 => ?_)
    · simp only [cP, cN, bI_0, Bool.not_eq_false, lt_nle, Decidable.not_not] at b185
      exact absurd rfl b185
    · simp only [cP, cN, bI_0, Bool.not_eq_false, lt_nle, Decidable.not_not] at b185
      refine And.intro (hs _ _ _ ⟨?_, fun _ => hA2.2.2.1⟩ hm2 hf2) rfl
      unfold pAny
      rw [hc2]
      have h8 := hA2.1
      rw [List.nil_append] at h8
      exact ⟨h8.1, rfl, h8.2.1, h8.2.2.1, h8.2.2.2.1⟩
