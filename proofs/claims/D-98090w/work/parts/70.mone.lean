set_option maxRecDepth 100000
/-! conditions in the model -/
theorem Cd9.up : ∀ {a c : Nat} {x : Code9}, Cd9 a x → a ≤ c → Cd9 c x
  | 0, _, _, w, _ => w.elim
  | a + 1, 0, _, _, h => absurd h (by omega)
  | a + 1, c + 1, x, w, h => by
    rcases w with ⟨c1, h1, h2⟩ | ⟨o, c1, c2, h1, h3, h4, h5⟩ | ⟨o, c1, c2, h1, h3, h4, h5⟩
    · exact Or.inl ⟨c1, Cd9.up h1 (by omega), h2⟩
    · exact Or.inr (Or.inl ⟨o, c1, c2, h1, h3.up (by omega), h4.up (by omega), h5⟩)
    · exact Or.inr (Or.inr ⟨o, c1, c2, h1, Cd9.up h3 (by omega), Cd9.up h4 (by omega), h5⟩)
def PGc (n k : Nat) (r : PR) : Prop := ∀ d k2, r = .inr (d, k2) → k < k2 ∧ k2 ≤ n ∧ d.length ≤ k2 - k ∧ Cd9 d.length d
theorem pCmp_g {t : Nat → Int32} {n k : Nat} (hk : k ≤ n) : PGc n k (pCmp t n k) := by
  intro d k2 h
  unfold pCmp at h
  cases hu : pSum t n k with
  | inl e => rw [hu] at h; cases h
  | inr q =>
    rw [hu] at h
    obtain ⟨c1, k1⟩ := q
    have hg := pSum_g hk c1 k1 hu
    dsimp only at h
    split at h
    · rename_i hs
      have ha : k1 < tN t n k1 ∧ tN t n k1 ≤ n := hs.elim (sgn_adv hg.2.1) (fun q => q.elim (sgn_adv hg.2.1) (sgn_adv hg.2.1))
      cases hu2 : pSum t n (tN t n k1) with
      | inl e => rw [hu2] at h; cases h
      | inr q2 =>
        rw [hu2] at h
        obtain ⟨c2, k3⟩ := q2
        have hg2 := pSum_g ha.2 c2 k3 hu2
        dsimp only at h
        cases h
        refine ⟨by omega, hg2.2.1, by rw [len3]; omega, ?_⟩
        rw [len3]
        exact Or.inr (Or.inl ⟨_, c1, c2, (by
          split
          · exact Or.inl rfl
          · split
            · exact Or.inr (Or.inl rfl)
            · exact Or.inr (Or.inr rfl)), hg.2.2.2.up (by omega), hg2.2.2.2.up (by omega), rfl⟩)
    · cases h
def AS (n m : Nat) (E : Code9) (k w : Nat) (P : List Int32) (o : Nat) (S S1 : SS) : Prop := Sa n m E k w S S1 ∧ PA S1 P ∧ S1 0 33 = nI o ∧ P.length ≤ w
section AL
variable {n m k w o : Nat} {E : Code9} {P : List Int32} {S S1 S2 : SS}
theorem AS.less {w' : Nat} (h : AS n m E k w P o S S1) (h1 : w' ≤ w) (h2 : P.length ≤ w') : AS n m E k w' P o S S1 := ⟨⟨h.1.1, h.1.2.1, h.1.2.2.1, h.1.2.2.2.1, h.1.2.2.2.2.1, by have := h.1.2.2.2.2.2; omega⟩, h.2.1, h.2.2.1, h2⟩
theorem AS.read {f : Nat → Int32} (h : AS n m E k w P o S S1) (hk : ¬ tK (S 8) n k = 0) (h1 : FO S1 f) (h2 : TkF f (S1 8) n (tN (S 8) n k)) : AS n m E (tN (S 8) n k) (w + 1) P o S (setF S1 0 f) :=
  ⟨h.1.read hk h1 h2, h.2.1.eq (h1 35 (Or.inr (by decide))) rfl, (h1 33 (Or.inr (by decide))).trans h.2.2.1, by have := h.2.2.2; omega⟩
theorem AS.push {x : Int32} (h : AS n m E k w P o S S1) (hw : P.length + 1 ≤ w) : AS n m E k w (x :: P) o S (up2 (up2 S1 15 P.length x) 0 35 (nI P.length + 1)) :=
  ⟨(h.1.up (Or.inl rfl)).up (Or.inr ⟨rfl, Or.inr rfl⟩), h.2.1.push, h.2.2.1, hw⟩
theorem AS.pushR {f : Nat → Int32} {x : Int32} (h : AS n m E k w P o S S1) (hk : ¬ tK (S 8) n k = 0) (h1 : FO (up2 (up2 S1 15 P.length x) 0 35 (nI P.length + 1)) f) (h2 : TkF f ((up2 (up2 S1 15 P.length x) 0 35 (nI P.length + 1)) 8) n (tN (S 8) n k)) : AS n m E (tN (S 8) n k) (w + 1) (x :: P) o S (setF (up2 (up2 S1 15 P.length x) 0 35 (nI P.length + 1)) 0 f) := by
  have h3 : Sa n m E k w S (up2 (up2 S1 15 P.length x) 0 35 (nI P.length + 1)) := (h.1.up (Or.inl rfl)).up (Or.inr ⟨rfl, Or.inr rfl⟩)
  have h4 : PA (up2 (up2 S1 15 P.length x) 0 35 (nI P.length + 1)) (x :: P) := h.2.1.push
  exact ⟨h3.read hk h1 h2, h4.eq (h1 35 (Or.inr (by decide))) rfl, (h1 33 (Or.inr (by decide))).trans h.2.2.1, by have := h.2.2.2; show P.length + 1 ≤ w + 1; omega⟩
theorem AS.opn {o' : Nat} (h : AS n m E k w P o S S1) : AS n m E k w P o' S (up2 S1 0 33 (nI o')) :=
  ⟨h.1.up (Or.inr ⟨rfl, Or.inl rfl⟩), h.2.1.eq rfl rfl, rfl, h.2.2.2⟩
theorem AS.pop {x : Int32} (h : AS n m E k w (x :: P) o S S1) : AS n m E k w P o S (up2 S1 0 35 (nI P.length)) :=
  ⟨h.1.up (Or.inr ⟨rfl, Or.inr rfl⟩), h.2.1.pop, h.2.2.1, by have h9 : P.length + 1 ≤ w := h.2.2.2; omega⟩
theorem AS.settle {w0 : Nat} (h : AS n m E k w P o S S1) (q : StR w0 P (m + E.length) o S1 S2) : AS n m (E ++ rep w0 (ldn (nI w0) P)) k (w - ldn (nI w0) P) (P.drop (ldn (nI w0) P)) (if w0 = 9 then o - ldn (nI w0) P else o) S S2 := by
  obtain ⟨⟨a1, ⟨t1, t2, t3, t4⟩, a3, a4, a5, a6⟩, b1, b2, b3⟩ := h
  obtain ⟨q1, q2, q3, q4, q5, q6, q7⟩ := q
  have hl := ldn_le (nI w0) P
  refine ⟨⟨a1.tr q5 (by omega), ⟨?_, ?_, ?_, ?_⟩, ?_, ?_, a5, ?_⟩, q1, ?_, ?_⟩
  · rw [q7 21 (by decide) (by decide)]; exact t1
  · rw [q7 22 (by decide) (by decide)]; exact t2
  · rw [q7 23 (by decide) (by decide)]; exact t3
  · rw [q7 24 (by decide) (by decide)]; exact t4
  · rw [q2, List.length_append, rep_len, Nat.add_assoc]
  · exact (a4.fa q5 (Nat.le_refl _)).app (by rw [Nat.add_assoc]; exact q3)
  · rw [List.length_append, rep_len]
    omega
  · rw [q4]
    split <;> rfl
  · rw [List.length_drop]
    omega
theorem AS.p (h : AS n m E k w P o S S1) (ro : RdO S n) (w0 : Nat) (hw : w0 < 12) (hP : P.length ≤ 39) (h9 : w0 = 9 → ldn 9 P ≤ o) : nI w0 = nI w0 ∧ w0 < 12 ∧ PA S1 P ∧ P.length ≤ 39 ∧ S1 0 32 = nI (m + E.length) ∧ m + E.length + P.length ≤ 400 ∧ S1 0 33 = nI o ∧ (w0 = 9 → ldn 9 P ≤ o) :=
  ⟨rfl, hw, h.2.1, hP, h.1.2.2.1, by have h1 := h.1.2.2.2.2.2; have h2 := h.1.2.2.2.2.1; have h3 := ro.2.1; have h4 := h.2.2.2; omega, h.2.2.1, h9⟩
end AL
def RepA (E acc : Code9) (Q' : List Int32) (E1 : Code9) (P1 : List Int32) : Prop := (P1 = Q' ∧ E1 = E ++ acc) ∨ (P1 = 10 :: Q' ∧ E1 ++ [(10, 0)] = E ++ acc)
def RepO (E acc : Code9) (Qb : List Int32) (Y : Code9) (Q' : List Int32) : Prop := (Q' = Qb ∧ Y = E ++ acc) ∨ (Q' = 11 :: Qb ∧ Y ++ [(11, 0)] = E ++ acc)
theorem RepA.s {E acc E1 : Code9} {Q' P1 : List Int32} (h : RepA E acc Q' E1 P1) (h0 : ldn 10 Q' = 0) : E1 ++ rep 10 (ldn (nI 10) P1) = E ++ acc ∧ P1.drop (ldn (nI 10) P1) = Q' ∧ P1.length ≤ Q'.length + 1 := by
  rcases h with ⟨rfl, rfl⟩ | ⟨rfl, h⟩
  · rw [show ldn (nI 10) P1 = 0 from h0]
    exact ⟨List.append_nil _, rfl, by omega⟩
  · have e : ldn (nI 10) (10 :: Q') = 1 := by
      show (if (10 : Int32) = nI 10 then ldn (nI 10) Q' + 1 else 0) = 1
      rw [if_pos (show (10 : Int32) = nI 10 from rfl), show ldn (nI 10) Q' = 0 from h0]
    rw [e]
    exact ⟨h, rfl, Nat.le_refl _⟩
theorem RepO.s {E acc Y : Code9} {Qb Q' : List Int32} (h : RepO E acc Qb Y Q') (h0 : ldn 11 Qb = 0) : Y ++ rep 11 (ldn (nI 11) Q') = E ++ acc ∧ Q'.drop (ldn (nI 11) Q') = Qb ∧ Q'.length ≤ Qb.length + 1 := by
  rcases h with ⟨rfl, rfl⟩ | ⟨rfl, h⟩
  · rw [show ldn (nI 11) Q' = 0 from h0]
    exact ⟨List.append_nil _, rfl, by omega⟩
  · have e : ldn (nI 11) (11 :: Qb) = 1 := by
      show (if (11 : Int32) = nI 11 then ldn (nI 11) Qb + 1 else 0) = 1
      rw [if_pos (show (11 : Int32) = nI 11 from rfl), show ldn (nI 11) Qb = 0 from h0]
    rw [e]
    exact ⟨h, rfl, Nat.le_refl _⟩
section RA
variable (l : Launch) (G : GG) (d b z : Nat) (h : AH) (Q : Option Value → AH → Prop) (S : SS) (n m : Nat)
def A9 (pc : Nat) (due : Int32) (B : Nat) (h1 : AH) (J : LL) : Prop := X l G mX3_readAny (rmK d 0 0) (TGm G (fun v h' z' => Q v h' ∧ z' = z) 0 0) 0 0 pc ([(0, .ref b), (1, .int (nI B)), (2, .int due)] ++ J) [] h1 z
def Fl (e : Int32 × Nat) : Prop := ∀ S' h', RaQ (.inl e) S n m (-1) S' → IsMod G b S' h' → FrM b h h' → Q (some (.int (-1))) h'
def COne (f : Nat) : Prop := ∀ (k : Nat) (E : Code9) (P : List Int32) (o B : Nat) (S1 : SS) (h1 : AH) (J : LL), AS n m E k P.length P o S S1 → IsMod G b S1 h1 → FrM b h h1 → o ≤ 8 ∧ B ≤ o → P.length + 3 * (8 - o) ≤ 35 → 4 * (n - k) + 1 ≤ f → ldn 9 P ≤ o → (∀ e, pC (S 8) n f 0 o [] k = .inl e → Fl G b h Q S n m e) → (∀ c k2, pC (S 8) n f 0 o [] k = .inr (c, k2) → k < k2 → ∀ S2 h2 J2, AS n m (E ++ c ++ rep 9 (ldn 9 P)) k2 (P.drop (ldn 9 P)).length (P.drop (ldn 9 P)) (o - ldn 9 P) S S2 → IsMod G b S2 h2 → FrM b h h2 → A9 l G d b z Q 9 0 B h2 J2) → A9 l G d b z Q 9 1 B h1 J
def CAllL (f : Nat) : Prop := ∀ (k : Nat) (E acc E1 : Code9) (Q' P1 : List Int32) (o B : Nat) (S1 : SS) (h1 : AH) (J : LL), RepA E acc Q' E1 P1 → ldn 9 Q' = 0 → ldn 10 Q' = 0 → AS n m E1 k P1.length P1 o S S1 → IsMod G b S1 h1 → FrM b h h1 → o ≤ 8 ∧ B ≤ o → Q'.length + 3 * (8 - o) ≤ 34 → 4 * (n - k) + 1 ≤ f → (∀ e, pC (S 8) n f 1 o acc k = .inl e → Fl G b h Q S n m e) → (∀ c k2 E2 P2, pC (S 8) n f 1 o acc k = .inr (c, k2) → k ≤ k2 → wrd (S 8) n k2 3 = false → RepA E c Q' E2 P2 → ∀ S2 h2 J2, AS n m E2 k2 (P2).length (P2) o S S2 → IsMod G b S2 h2 → FrM b h h2 → A9 l G d b z Q 9 0 B h2 J2) → A9 l G d b z Q 9 0 B h1 J
def CAll (f : Nat) : Prop := ∀ (k : Nat) (E : Code9) (Q' : List Int32) (o B : Nat) (S1 : SS) (h1 : AH) (J : LL), ldn 9 Q' = 0 → ldn 10 Q' = 0 → AS n m E k Q'.length Q' o S S1 → IsMod G b S1 h1 → FrM b h h1 → o ≤ 8 ∧ B ≤ o → Q'.length + 3 * (8 - o) ≤ 34 → 4 * (n - k) + 2 ≤ f → (∀ e, pC (S 8) n f 4 o [] k = .inl e → Fl G b h Q S n m e) → (∀ c k2 E2 P2, pC (S 8) n f 4 o [] k = .inr (c, k2) → k < k2 → wrd (S 8) n k2 3 = false → RepA E c Q' E2 P2 → ∀ S2 h2 J2, AS n m E2 k2 (P2).length (P2) o S S2 → IsMod G b S2 h2 → FrM b h h2 → A9 l G d b z Q 9 0 B h2 J2) → A9 l G d b z Q 9 1 B h1 J
def CAnyL (f : Nat) : Prop := ∀ (k : Nat) (E acc Y E1 : Code9) (Qb Q' P1 : List Int32) (o B : Nat) (S1 : SS) (h1 : AH) (J : LL), RepO E acc Qb Y Q' → RepA [] Y Q' E1 P1 → ldn 10 Q' = 0 → ldn 9 Qb = 0 → ldn 10 Qb = 0 → ldn 11 Qb = 0 → wrd (S 8) n k 3 = false → AS n m E1 k P1.length P1 o S S1 → IsMod G b S1 h1 → FrM b h h1 → o ≤ 8 ∧ B ≤ o → Qb.length + 3 * (8 - o) ≤ 33 → 4 * (n - k) + 1 ≤ f → (∀ e, pC (S 8) n f 2 o acc k = .inl e → Fl G b h Q S n m e) → (∀ c k2, pC (S 8) n f 2 o acc k = .inr (c, k2) → k ≤ k2 → ∀ S2 h2 J2, AS n m (E ++ c) k2 (Qb).length (Qb) o S S2 → IsMod G b S2 h2 → FrM b h h2 → A9 l G d b z Q 184 0 B h2 J2) → A9 l G d b z Q 9 0 B h1 J
def CAny (f : Nat) : Prop := ∀ (k : Nat) (E : Code9) (Qb : List Int32) (o B : Nat) (S1 : SS) (h1 : AH) (J : LL), ldn 9 Qb = 0 → ldn 10 Qb = 0 → ldn 11 Qb = 0 → AS n m E k Qb.length Qb o S S1 → IsMod G b S1 h1 → FrM b h h1 → o ≤ 8 ∧ B ≤ o → Qb.length + 3 * (8 - o) ≤ 33 → 4 * (n - k) + 3 ≤ f → (∀ e, pC (S 8) n f 3 o [] k = .inl e → Fl G b h Q S n m e) → (∀ c k2, pC (S 8) n f 3 o [] k = .inr (c, k2) → k < k2 → ∀ S2 h2 J2, AS n m (E ++ c) k2 (Qb).length (Qb) o S S2 → IsMod G b S2 h2 → FrM b h h2 → A9 l G d b z Q 184 0 B h2 J2) → A9 l G d b z Q 9 1 B h1 J
end RA
section RB
variable {l : Launch} {G : GG} {d b z : Nat} {h : AH} {Q : Option Value → AH → Prop} {S : SS} {n m : Nat}
theorem cAll_s {f : Nat} (h0 : COne l G d b z h Q S n m f) (h1 : CAllL l G d b z h Q S n m f) : CAll l G d b z h Q S n m (f + 1) := by
  intro k E Q' o B S1 h1' J l9 l10 hA hm hf ho hlen hfu hF hK
  refine h0 k E Q' o B S1 h1' J hA hm hf ho (by omega) (by omega) (by omega) (fun e he => hF e (by rw [pC, he])) ?_
  intro c k2 hc hkk S2 h2 J2 hA2 hm2 hf2
  rw [l9] at hA2
  replace hA2 : AS n m (E ++ c ++ []) k2 Q'.length Q' o S S2 := hA2
  rw [List.append_nil] at hA2
  refine h1 k2 E c (E ++ c) Q' Q' o B S2 h2 J2 (Or.inl ⟨rfl, rfl⟩) l9 l10 hA2 hm2 hf2 ho hlen (by omega) (fun e he => hF e (by rw [pC, hc]; exact he)) ?_
  intro c3 k3 E3 P3 hc3 hk3 hw hr S3 h3 J3 hA3 hm3 hf3
  exact hK c3 k3 E3 P3 (by rw [pC, hc]; exact hc3) (by omega) hw hr S3 h3 J3 hA3 hm3 hf3
theorem cAny_s {f : Nat} (h0 : CAll l G d b z h Q S n m f) (h1 : CAnyL l G d b z h Q S n m f) : CAny l G d b z h Q S n m (f + 1) := by
  intro k E Qb o B S1 h1' J l9 l10 l11 hA hm hf ho hlen hfu hF hK
  refine h0 k E Qb o B S1 h1' J l9 l10 hA hm hf ho (by omega) (by omega) (fun e he => hF e (by rw [pC, he])) ?_
  intro c k2 E2 P2 hc hkk hw hr S2 h2 J2 hA2 hm2 hf2
  refine h1 k2 E c (E ++ c) E2 Qb Qb P2 o B S2 h2 J2 (Or.inl ⟨rfl, rfl⟩) hr l10 l9 l10 l11 hw hA2 hm2 hf2 ho hlen (by omega) (fun e he => hF e (by rw [pC, hc]; exact he)) ?_
  intro c3 k3 hc3 hk3 S3 h3 J3 hA3 hm3 hf3
  exact hK c3 k3 (by rw [pC, hc]; exact hc3) (by omega) S3 h3 J3 hA3 hm3 hf3
theorem cAllL_s {f : Nat} (hd : 8 ≤ d) (ro : RdO S n) (h0 : COne l G d b z h Q S n m f) (h1 : CAllL l G d b z h Q S n m f) : CAllL l G d b z h Q S n m (f + 1) := by
  intro k E acc E1 Q' P1 o B S1 h1' J hr l9 l10 hA hm hf ho hlen hfu hF hK
  have hkn : k ≤ n := hA.1.2.2.2.2.1
  cases hw : wrd (S 8) n k 3 with
  | false => exact hK acc k E1 P1 (by rw [pC, if_neg (by rw [hw]; decide)]) (Nat.le_refl k) hw hr S1 h1' J hA hm hf
  | true =>
    unfold A9
    refine X.cut _ J rfl ?_
    have hK0 : ¬ tK (S 8) n k = 0 := by rw [(wrd_K hw).1]; decide
    have hadv := tN_adv hkn hK0
    obtain ⟨rs1, rs2, rs3⟩ := hr.s l10
    refine X.w wkX3_readAny (fcons (ceV k_settles mmV1 ckX3_234 rfl mrV1 (by omega) rfl) (fcons (ceV k_readCompared mmW0 ckX3_231 rfl mrW0 (by omega) rfl) (fcons (ceV k_reads mmV0 ckX3_203 rfl mrV0 (by omega) rfl) (fcons (ceV k_waits mmV1 ckX3_228 rfl mrV1 (by omega) rfl) (fcons (ceV k_errs mmW1 ckX3_197 rfl mrW1 (by omega) rfl) (fcons (ceV k_isSign mmR1 ckX3_210 rfl mrR1 (by omega) rfl) (fcons (ceV k_isWord mmR1 ckX3_225 rfl mrR1 (by omega) rfl) fnil))))))) [9] 19 rfl ?_
    refine And.intro (fun b10 => ?_) (fun b10 => ?_)
    · simp only [cP, cN, bI_0, Bool.not_eq_false, lt_nle, Decidable.not_not] at b10
      refine Exists.intro _ (Exists.intro () (And.intro hm (And.intro trivial ?_)))
      intro v110 e110
      subst e110
      refine And.intro (fun b113 => ?_) (fun b113 => ?_)
      · simp only [cP, cN, bI_0, Bool.not_eq_false, lt_nle, Decidable.not_not] at b113
        rw [hA.1.wd, hw] at b113
        exact nomatch b113
      · simp only [cP, cN, bI_0, Bool.not_eq_false, lt_nle, Decidable.not_not] at b113
        refine Exists.intro _ (Exists.intro (10, P1, m + E1.length, o) (And.intro hm (And.intro (hA.p ro 10 (by decide) (by omega) (fun q => absurd q (by decide))) ?_)))
        intro S119 h119 p119 hm hf119
        have hf := hf.tr hf119
        (try dsimp only at p119)
        have hA := hA.settle p119
        rw [rs1, rs2, if_neg (by decide)] at hA
        replace hA := hA.less (w' := Q'.length) (by
          have h9 := congrArg List.length rs2
          rw [List.length_drop] at h9
          omega) (Nat.le_refl _)
        refine Exists.intro _ (Exists.intro Q'.length (And.intro hm (And.intro ⟨hA.2.1.1, by omega⟩ ?_)))
        intro S125 h125 p125 hm hf125
        have hf := hf.tr hf125
        (try dsimp only at p125)
        subst p125
        refine Exists.intro _ (Exists.intro (tN (S 8) n k, n) (And.intro hm (And.intro ⟨hA.1.pos, hadv.2, ro.fa ((hA.1.up (Or.inl rfl)).up (Or.inr ⟨rfl, Or.inr rfl⟩)).1⟩ ?_)))
        intro S129 h129 p129 hm hf129
        have hf := hf.tr hf129
        (try dsimp only at p129)
        obtain ⟨f129, rfl, hFO, hTk⟩ := p129
        replace hA := hA.pushR (x := 10) hK0 hFO hTk
        refine h0 (tN (S 8) n k) (E ++ acc) (10 :: Q') o B _ _ [] hA hm hf ho (by show Q'.length + 1 + _ ≤ 35; omega) (by omega) (by show (if (10 : Int32) = 9 then _ else 0) ≤ o; rw [if_neg (by decide)]; omega) (fun e he => hF e (by rw [pC, if_pos hw, he])) ?_
        intro c k2 hc hkk S2 h2 J2 hA2 hm2 hf2
        have e0 : ldn 9 (10 :: Q') = 0 := by show (if (10 : Int32) = 9 then _ else 0) = 0; rw [if_neg (by decide)]
        rw [e0] at hA2
        replace hA2 : AS n m (E ++ acc ++ c ++ []) k2 (10 :: Q').length (10 :: Q') o S S2 := hA2
        rw [List.append_nil] at hA2
        refine h1 k2 E (acc ++ c ++ [(10, 0)]) (E ++ acc ++ c) Q' (10 :: Q') o B S2 h2 J2 (Or.inr ⟨rfl, by rw [List.append_assoc E acc c, List.append_assoc E, List.append_assoc acc]⟩) l9 l10 hA2 hm2 hf2 ho hlen (by omega) (fun e he => hF e (by rw [pC, if_pos hw, hc]; exact he)) ?_
        intro c3 k3 E3 P3 hc3 hk3 hw3 hr3 S3 h3 J3 hA3 hm3 hf3
        exact hK c3 k3 E3 P3 (by rw [pC, if_pos hw, hc]; exact hc3) (by omega) hw3 hr3 S3 h3 J3 hA3 hm3 hf3
    · simp only [cP, cN, bI_0, Bool.not_eq_false, lt_nle, Decidable.not_not] at b10
      exact absurd trivial b10
theorem cAnyL_s {f : Nat} (hd : 8 ≤ d) (ro : RdO S n) (h0 : CAll l G d b z h Q S n m f) (h1 : CAnyL l G d b z h Q S n m f) : CAnyL l G d b z h Q S n m (f + 1) := by
  intro k E acc Y E1 Qb Q' P1 o B S1 h1' J hro hra l10' l9 l10 l11 hnw hA hm hf ho hlen hfu hF hK
  have hkn : k ≤ n := hA.1.2.2.2.2.1
  obtain ⟨rs1, rs2, rs3⟩ := hra.s l10'
  obtain ⟨ro1, ro2, ro3⟩ := hro.s l11
  rw [List.nil_append] at rs1
  unfold A9
  refine X.cut _ J rfl ?_
  have ls1 := congrArg List.length rs2
  have ls2 := congrArg List.length ro2
  rw [List.length_drop] at ls1 ls2
  cases hw : wrd (S 8) n k 2 with
  | true =>
    have hK0 : ¬ tK (S 8) n k = 0 := by rw [(wrd_K hw).1]; decide
    have hadv := tN_adv hkn hK0
    refine X.w wkX3_readAny (fcons (ceV k_settles mmV1 ckX3_234 rfl mrV1 (by omega) rfl) (fcons (ceV k_readCompared mmW0 ckX3_231 rfl mrW0 (by omega) rfl) (fcons (ceV k_reads mmV0 ckX3_203 rfl mrV0 (by omega) rfl) (fcons (ceV k_waits mmV1 ckX3_228 rfl mrV1 (by omega) rfl) (fcons (ceV k_errs mmW1 ckX3_197 rfl mrW1 (by omega) rfl) (fcons (ceV k_isSign mmR1 ckX3_210 rfl mrR1 (by omega) rfl) (fcons (ceV k_isWord mmR1 ckX3_225 rfl mrR1 (by omega) rfl) fnil))))))) [9] 26 rfl ?_
    refine And.intro (fun b10 => ?_) (fun b10 => ?_)
    · simp only [cP, cN, bI_0, Bool.not_eq_false, lt_nle, Decidable.not_not] at b10
      refine Exists.intro _ (Exists.intro () (And.intro hm (And.intro trivial ?_)))
      intro v110 e110
      subst e110
      refine And.intro (fun b113 => ?_) (fun b113 => ?_)
      · simp only [cP, cN, bI_0, Bool.not_eq_false, lt_nle, Decidable.not_not] at b113
        refine Exists.intro _ (Exists.intro () (And.intro hm (And.intro trivial ?_)))
        intro v139 e139
        subst e139
        refine And.intro (fun b142 => ?_) (fun b142 => ?_)
        · simp only [cP, cN, bI_0, Bool.not_eq_false, lt_nle, Decidable.not_not] at b142
          rw [hA.1.wd, hw] at b142
          exact nomatch b142
        · simp only [cP, cN, bI_0, Bool.not_eq_false, lt_nle, Decidable.not_not] at b142
          refine Exists.intro _ (Exists.intro (10, P1, m + E1.length, o) (And.intro hm (And.intro (hA.p ro 10 (by decide) (by omega) (fun q => absurd q (by decide))) ?_)))
          intro S148 h148 p148 hm hf148
          have hf := hf.tr hf148
          (try dsimp only at p148)
          have hA := hA.settle p148
          rw [rs1, rs2, if_neg (by decide)] at hA
          replace hA := hA.less (w' := Q'.length) (by omega) (Nat.le_refl _)
          refine Exists.intro _ (Exists.intro (11, Q', m + Y.length, o) (And.intro hm (And.intro (hA.p ro 11 (by decide) (by omega) (fun q => absurd q (by decide))) ?_)))
          intro S154 h154 p154 hm hf154
          have hf := hf.tr hf154
          (try dsimp only at p154)
          have hA := hA.settle p154
          rw [ro1, ro2, if_neg (by decide)] at hA
          replace hA := hA.less (w' := Qb.length) (by omega) (Nat.le_refl _)
          refine Exists.intro _ (Exists.intro Qb.length (And.intro hm (And.intro ⟨hA.2.1.1, by omega⟩ ?_)))
          intro S160 h160 p160 hm hf160
          have hf := hf.tr hf160
          (try dsimp only at p160)
          subst p160
          refine Exists.intro _ (Exists.intro (tN (S 8) n k, n) (And.intro hm (And.intro ⟨hA.1.pos, hadv.2, ro.fa ((hA.1.up (Or.inl rfl)).up (Or.inr ⟨rfl, Or.inr rfl⟩)).1⟩ ?_)))
          intro S164 h164 p164 hm hf164
          have hf := hf.tr hf164
          (try dsimp only at p164)
          obtain ⟨f164, rfl, hFO, hTk⟩ := p164
          replace hA := hA.pushR (x := 11) hK0 hFO hTk
          have e9 : ldn 9 (11 :: Qb) = 0 := by show (if (11 : Int32) = 9 then _ else 0) = 0; rw [if_neg (by decide)]
          have e10 : ldn 10 (11 :: Qb) = 0 := by show (if (11 : Int32) = 10 then _ else 0) = 0; rw [if_neg (by decide)]
          refine h0 (tN (S 8) n k) (E ++ acc) (11 :: Qb) o B _ _ [] e9 e10 hA hm hf ho (by show Qb.length + 1 + _ ≤ 34; omega) (by omega) (fun e he => hF e (by rw [pC, if_pos hw, he])) ?_
          intro c k2 E2 P2 hc hkk hw2 hr2 S2 h2 J2 hA2 hm2 hf2
          refine h1 k2 E (acc ++ c ++ [(11, 0)]) (E ++ acc ++ c) E2 Qb (11 :: Qb) P2 o B S2 h2 J2 (Or.inr ⟨rfl, by rw [List.append_assoc E acc c, List.append_assoc E, List.append_assoc acc]⟩) hr2 e10 l9 l10 l11 hw2 hA2 hm2 hf2 ho hlen (by omega) (fun e he => hF e (by rw [pC, if_pos hw, hc]; exact he)) ?_
          intro c3 k3 hc3 hk3 S3 h3 J3 hA3 hm3 hf3
          exact hK c3 k3 (by rw [pC, if_pos hw, hc]; exact hc3) (by omega) S3 h3 J3 hA3 hm3 hf3
      · simp only [cP, cN, bI_0, Bool.not_eq_false, lt_nle, Decidable.not_not] at b113
        rw [hA.1.wd, hnw] at b113
        exact nomatch b113
    · simp only [cP, cN, bI_0, Bool.not_eq_false, lt_nle, Decidable.not_not] at b10
      exact absurd trivial b10
  | false =>
    refine X.w wkX3_readAny (fcons (ceV k_settles mmV1 ckX3_234 rfl mrV1 (by omega) rfl) (fcons (ceV k_readCompared mmW0 ckX3_231 rfl mrW0 (by omega) rfl) (fcons (ceV k_reads mmV0 ckX3_203 rfl mrV0 (by omega) rfl) (fcons (ceV k_waits mmV1 ckX3_228 rfl mrV1 (by omega) rfl) (fcons (ceV k_errs mmW1 ckX3_197 rfl mrW1 (by omega) rfl) (fcons (ceV k_isSign mmR1 ckX3_210 rfl mrR1 (by omega) rfl) (fcons (ceV k_isWord mmR1 ckX3_225 rfl mrR1 (by omega) rfl) fnil))))))) [9, 184] 18 rfl ?_
    refine And.intro (fun b10 => ?_) (fun b10 => ?_)
    · simp only [cP, cN, bI_0, Bool.not_eq_false, lt_nle, Decidable.not_not] at b10
      refine Exists.intro _ (Exists.intro () (And.intro hm (And.intro trivial ?_)))
      intro v110 e110
      subst e110
      refine And.intro (fun b113 => ?_) (fun b113 => ?_)
      · simp only [cP, cN, bI_0, Bool.not_eq_false, lt_nle, Decidable.not_not] at b113
        refine Exists.intro _ (Exists.intro () (And.intro hm (And.intro trivial ?_)))
        intro v139 e139
        subst e139
        refine And.intro (fun b142 => ?_) (fun b142 => ?_)
        · simp only [cP, cN, bI_0, Bool.not_eq_false, lt_nle, Decidable.not_not] at b142
          refine Exists.intro _ (Exists.intro (10, P1, m + E1.length, o) (And.intro hm (And.intro (hA.p ro 10 (by decide) (by omega) (fun q => absurd q (by decide))) ?_)))
          intro S175 h175 p175 hm hf175
          have hf := hf.tr hf175
          (try dsimp only at p175)
          have hA := hA.settle p175
          rw [rs1, rs2, if_neg (by decide)] at hA
          replace hA := hA.less (w' := Q'.length) (by omega) (Nat.le_refl _)
          refine Exists.intro _ (Exists.intro (11, Q', m + Y.length, o) (And.intro hm (And.intro (hA.p ro 11 (by decide) (by omega) (fun q => absurd q (by decide))) ?_)))
          intro S181 h181 p181 hm hf181
          have hf := hf.tr hf181
          (try dsimp only at p181)
          have hA := hA.settle p181
          rw [ro1, ro2, if_neg (by decide)] at hA
          replace hA := hA.less (w' := Qb.length) (by omega) (Nat.le_refl _)
          exact hK acc k (by rw [pC, if_neg (by rw [hw]; decide)]) (Nat.le_refl k) _ _ [] hA hm hf
        · simp only [cP, cN, bI_0, Bool.not_eq_false, lt_nle, Decidable.not_not] at b142
          rw [hA.1.wd, hw] at b142
          exact nomatch b142
      · simp only [cP, cN, bI_0, Bool.not_eq_false, lt_nle, Decidable.not_not] at b113
        rw [hA.1.wd, hnw] at b113
        exact nomatch b113
    · simp only [cP, cN, bI_0, Bool.not_eq_false, lt_nle, Decidable.not_not] at b10
      exact absurd trivial b10
end RB
