set_option maxRecDepth 100000
/-! A TEXT: its lines -/
theorem cd_two {c d : Code9} {o : Nat} (ho : o = 10 ∨ o = 11) (h1 : Cd9 c.length c) (h2 : Cd9 d.length d) : Cd9 (c ++ d ++ [(o, 0)]).length (c ++ d ++ [(o, 0)]) := by
  rw [len3]
  exact Or.inr (Or.inr ⟨o, c, d, ho, h1.up (by omega), h2.up (by omega), rfl⟩)
theorem pC_g {t : Nat → Int32} {n : Nat} : ∀ (f : Nat), (∀ o k, k ≤ n → PGc n k (pC t n f 0 o [] k)) ∧ (∀ o acc k0 k, k0 < k → k ≤ n → acc.length ≤ k - k0 → Cd9 acc.length acc → PGc n k0 (pC t n f 1 o acc k)) ∧ (∀ o acc k0 k, k0 < k → k ≤ n → acc.length ≤ k - k0 → Cd9 acc.length acc → PGc n k0 (pC t n f 2 o acc k)) ∧ (∀ o k, k ≤ n → PGc n k (pC t n f 3 o [] k)) ∧ (∀ o k, k ≤ n → PGc n k (pC t n f 4 o [] k))
  | 0 => ⟨fun _ _ _ _ _ h => (nomatch h), fun _ _ _ _ _ _ _ _ _ _ h => (nomatch h), fun _ _ _ _ _ _ _ _ _ _ h => (nomatch h), fun _ _ _ _ _ h => (nomatch h), fun _ _ _ _ _ h => (nomatch h)⟩
  | f + 1 => by
    obtain ⟨i0, i1, i2, i3, i4⟩ := pC_g (t := t) (n := n) f
    refine ⟨?_, ?_, ?_, ?_, ?_⟩
    · intro o k hk d k2 h
      rw [pC] at h
      split at h
      · rename_i hw
        have ha := wrd_adv hk hw
        split at h
        · cases h
        · cases hu : pC t n f 0 (o + 1) [] (tN t n k) with
          | inl e => rw [hu] at h; cases h
          | inr q =>
            rw [hu] at h
            obtain ⟨c, k3⟩ := q
            have hg := i0 (o + 1) _ ha.2 c k3 hu
            dsimp only at h
            cases h
            refine ⟨by omega, hg.2.1, by rw [List.length_append]; show c.length + 1 ≤ _; omega, ?_⟩
            rw [List.length_append]
            exact Or.inl ⟨c, hg.2.2.2, rfl⟩
      · split at h
        · rename_i hw
          have ha := sgn_adv hk hw
          split at h
          · cases h
          · cases hu : pC t n f 3 (o + 1) [] (tN t n k) with
            | inl e => rw [hu] at h; cases h
            | inr q =>
              rw [hu] at h
              obtain ⟨c, k3⟩ := q
              have hg := i3 (o + 1) _ ha.2 c k3 hu
              dsimp only at h
              split at h
              · rename_i hw2
                have ha2 := sgn_adv hg.2.1 hw2
                cases h
                exact ⟨by omega, ha2.2, by omega, hg.2.2.2⟩
              · cases h
        · exact pCmp_g hk d k2 h
    · intro o acc k0 k h0 hk hl hc d k2 h
      rw [pC] at h
      split at h
      · rename_i hw
        have ha := wrd_adv hk hw
        cases hu : pC t n f 0 o [] (tN t n k) with
        | inl e => rw [hu] at h; cases h
        | inr q =>
          rw [hu] at h
          obtain ⟨c, k3⟩ := q
          have hg := i0 o _ ha.2 c k3 hu
          exact i1 o _ k0 k3 (by omega) hg.2.1 (by rw [len3]; omega) (cd_two (Or.inl rfl) hc hg.2.2.2) d k2 h
      · cases h
        exact ⟨h0, hk, hl, hc⟩
    · intro o acc k0 k h0 hk hl hc d k2 h
      rw [pC] at h
      split at h
      · rename_i hw
        have ha := wrd_adv hk hw
        cases hu : pC t n f 4 o [] (tN t n k) with
        | inl e => rw [hu] at h; cases h
        | inr q =>
          rw [hu] at h
          obtain ⟨c, k3⟩ := q
          have hg := i4 o _ ha.2 c k3 hu
          exact i2 o _ k0 k3 (by omega) hg.2.1 (by rw [len3]; omega) (cd_two (Or.inr rfl) hc hg.2.2.2) d k2 h
      · cases h
        exact ⟨h0, hk, hl, hc⟩
    · intro o k hk d k2 h
      rw [pC] at h
      cases hu : pC t n f 4 o [] k with
      | inl e => rw [hu] at h; cases h
      | inr q =>
        rw [hu] at h
        obtain ⟨c, k3⟩ := q
        have hg := i4 o _ hk c k3 hu
        exact i2 o _ k k3 hg.1 hg.2.1 hg.2.2.1 hg.2.2.2 d k2 h
    · intro o k hk d k2 h
      rw [pC] at h
      cases hu : pC t n f 0 o [] k with
      | inl e => rw [hu] at h; cases h
      | inr q =>
        rw [hu] at h
        obtain ⟨c, k3⟩ := q
        have hg := i0 o _ hk c k3 hu
        exact i1 o _ k k3 hg.1 hg.2.1 hg.2.2.1 hg.2.2.2 d k2 h
theorem pAny_g {t : Nat → Int32} {n k : Nat} (hk : k ≤ n) : PGc n k (pAny t n k) := (pC_g _).2.2.2.1 0 k hk
abbrev PT : Type := Sum (Int32 × Nat) (List Line9)
def pTxt (t : Nat → Int32) (n : Nat) : Nat → List Line9 → Nat → PT
  | 0, _, _ => .inl (0, 0)
  | f + 1, ls, k => if wrd t n k 0 = true then (if ls.length = 16 then .inl (3, tS t n k) else match pSum t n (tN t n k) with
      | .inl e => .inl e
      | .inr g => if wrd t n g.2 1 = true then (match pAny t n (tN t n g.2) with
          | .inl e => .inl e
          | .inr w => if sgn t n w.2 59 = true then pTxt t n f (ls ++ [(g.1, some w.1)]) (tN t n w.2) else .inl (1, tS t n w.2))
        else if sgn t n g.2 59 = true then pTxt t n f (ls ++ [(g.1, none)]) (tN t n g.2) else .inl (1, tS t n g.2))
    else if tK t n k = 0 then .inr ls else .inl (1, tS t n k)
/-- a line of the draft -/
def DLine (S : SS) (m i : Nat) (q : Line9) : Prop := ∃ a b c : Nat, S 11 (16 + i) = nI a ∧ S 10 (16 + i) = nI b ∧ S 12 (16 + i) = nI c ∧ b = a + q.1.length ∧ c ≤ m ∧ CodeAt S (400 + a) q.1 ∧ Ar9 DEP q.1 ∧ b ≤ c ∧ match q.2 with
  | none => c = b
  | some w => c = b + w.length ∧ CodeAt S (400 + b) w ∧ Cd9 DEP w
theorem CodeAt.lt {S1 S2 : SS} {a x : Nat} {c : Code9} (h : CodeAt S1 a c) (hx : ∀ j, j < x → S2 13 j = S1 13 j ∧ S2 14 j = S1 14 j) (hl : a + c.length ≤ x) : CodeAt S2 a c := by
  intro j o v hj
  have hjl : j < c.length := (List.getElem?_eq_some_iff.mp hj).1
  have := hx (a + j) (by omega)
  rw [this.1, this.2]
  exact h j o v hj
theorem DLine.fr {S1 S2 : SS} {m m2 i : Nat} {q : Line9} (h : DLine S1 m i q) (hm : m ≤ m2) (hx : ∀ j, j < 400 + m → S2 13 j = S1 13 j ∧ S2 14 j = S1 14 j) (h10 : S2 10 (16 + i) = S1 10 (16 + i)) (h11 : S2 11 (16 + i) = S1 11 (16 + i)) (h12 : S2 12 (16 + i) = S1 12 (16 + i)) : DLine S2 m2 i q := by
  obtain ⟨a, b, c, e1, e2, e3, e4, e5, e6, e7, e9, e8⟩ := h
  refine ⟨a, b, c, h11.trans e1, h10.trans e2, h12.trans e3, e4, by omega, e6.lt hx (by omega), e7, e9, ?_⟩
  obtain ⟨g, w⟩ := q
  cases w with
  | none => exact e8
  | some w =>
    dsimp only at e8 ⊢
    exact ⟨e8.1, e8.2.1.lt hx (by omega), e8.2.2⟩
/-- nothing has changed but the draft, the reading, what waits -/
def RFt (S S' : SS) : Prop := (∀ o, o ≠ 0 → o < 10 ∨ 15 < o → S' o = S o) ∧ (∀ j, fa j = false → S' 0 j = S 0 j) ∧ (∀ j, j < 400 → S' 13 j = S 13 j ∧ S' 14 j = S 14 j) ∧ ∀ j, j < 16 → S' 10 j = S 10 j ∧ S' 11 j = S 11 j ∧ S' 12 j = S 12 j
theorem RFt.rf {S : SS} : RFt S S := ⟨fun _ _ _ => rfl, fun _ _ => rfl, fun _ _ => ⟨rfl, rfl⟩, fun _ _ => ⟨rfl, rfl, rfl⟩⟩
theorem RFt.tr {S S1 S2 : SS} (a : RFt S S1) (c : RFt S1 S2) : RFt S S2 :=
  ⟨fun o h0 h1 => (c.1 o h0 h1).trans (a.1 o h0 h1), fun j hj => (c.2.1 j hj).trans (a.2.1 j hj), fun j hj => ⟨((c.2.2.1 j hj).1).trans (a.2.2.1 j hj).1, ((c.2.2.1 j hj).2).trans (a.2.2.1 j hj).2⟩, fun j hj => ⟨((c.2.2.2 j hj).1).trans (a.2.2.2 j hj).1, ((c.2.2.2 j hj).2.1).trans (a.2.2.2 j hj).2.1, ((c.2.2.2 j hj).2.2).trans (a.2.2.2 j hj).2.2⟩⟩
theorem RFa.t {m : Nat} {S S' : SS} (h : RFa m S S') : RFt S S' := ⟨fun o h0 h1 => h.1 o h0 (by omega) (by omega) (by omega), h.2.1, fun j hj => h.2.2 j (by omega), fun j _ => ⟨by rw [h.1 10 (by decide) (by decide) (by decide) (by decide)], by rw [h.1 11 (by decide) (by decide) (by decide) (by decide)], by rw [h.1 12 (by decide) (by decide) (by decide) (by decide)]⟩⟩
theorem RFt.line {S : SS} {o j : Nat} {x : Int32} (h : o = 10 ∨ o = 11 ∨ o = 12) : RFt S (up2 S o (16 + j) x) := by
  refine ⟨fun q h0 h1 => up2_n (by omega), fun q _ => by rw [up2_n (by omega)], fun q _ => ⟨by rw [up2_n (by omega)], by rw [up2_n (by omega)]⟩, fun q hq => ⟨?_, ?_, ?_⟩⟩ <;> rw [up2_ap, if_neg (by omega)]
theorem RFt.e8 {S S1 : SS} (h : RFt S S1) : S1 8 = S 8 := h.1 8 (by decide) (by decide)
theorem RdO.ft {S S1 : SS} {n : Nat} (h : RdO S n) (r : RFt S S1) : RdO S1 n := by
  refine ⟨(r.2.1 20 rfl).trans h.1, h.2.1, ?_, ?_⟩
  · intro i hi
    rw [r.1 9 (by decide) (by decide)]
    exact h.2.2.1 i hi
  · intro i hi
    rw [r.e8]
    exact h.2.2.2 i hi
def LSt (S : SS) (n m k : Nat) (S1 : SS) : Prop := RFt S S1 ∧ TkF (S1 0) (S 8) n k ∧ S1 0 32 = nI m ∧ m ≤ k ∧ k ≤ n ∧ S1 0 33 = 0
section LS
variable {S S1 S2 : SS} {n m k : Nat}
theorem LSt.p (h : LSt S n m k S1) (ro : RdO S n) : RdP S1 k n m := by
  obtain ⟨h1, h2, h3, h4, h5, h6⟩ := h
  refine ⟨⟨RFr.rf, ?_, h3, CodeAt.nil, h5, by show m + 0 + 0 ≤ k; omega⟩, ro.ft h1⟩
  rw [h1.e8]
  exact h2
theorem LSt.read {f : Nat → Int32} (h : LSt S n m k S1) (hk : ¬ tK (S 8) n k = 0) (h1 : FO S1 f) (h2 : TkF f (S1 8) n (tN (S 8) n k)) : LSt S n m (tN (S 8) n k) (setF S1 0 f) := by
  obtain ⟨a1, a2, a3, a4, a5, a6⟩ := h
  have ha := tN_adv a5 hk
  refine ⟨a1.tr (RFr.fo (m := 0) h1).a.t, ?_, (h1 32 (Or.inr (by decide))).trans a3, by omega, ha.2, (h1 33 (Or.inr (by decide))).trans a6⟩
  rw [a1.e8] at h2
  exact h2
theorem LSt.line {o j : Nat} {x : Int32} (h : LSt S n m k S1) (ho : o = 10 ∨ o = 11 ∨ o = 12) : LSt S n m k (up2 S1 o (16 + j) x) := by
  obtain ⟨a1, a2, a3, a4, a5, a6⟩ := h
  have e : up2 S1 o (16 + j) x 0 = S1 0 := up2_n (by omega)
  refine ⟨a1.tr (RFt.line ho), ?_, ?_, a4, a5, ?_⟩
  · rw [e]; exact a2
  · rw [e]; exact a3
  · rw [e]; exact a6
theorem LSt.line' {G : GG} {b o j : Nat} {x : Int32} {h2 : AH} (h : LSt S n m k S1) (_ : IsMod G b (up2 S1 o (16 + j) x) h2) (ho : o = 10 ∨ o = 11 ∨ o = 12) : LSt S n m k (up2 S1 o (16 + j) x) := h.line ho
theorem LSt.sum {c : Code9} {k2 : Nat} {v : Int32} (h : LSt S n m k S1) (q : RdQ (.inr (c, k2)) S1 n m v S2) (h1 : k < k2) (h2 : k2 ≤ n) (h3 : c.length ≤ k2 - k) : LSt S n (m + c.length) k2 S2 := by
  obtain ⟨a1, a2, a3, a4, a5, a6⟩ := h
  obtain ⟨b1, b2, b3, b4, b5⟩ := q
  refine ⟨a1.tr b1.a.t, ?_, b4, by omega, h2, (b1.2.1 33 rfl).trans a6⟩
  rw [← a1.e8]
  exact b3
theorem LSt.any {c : Code9} {k2 : Nat} {v : Int32} (h : LSt S n m k S1) (q : RaQ (.inr (c, k2)) S1 n m v S2) (q2 : v = 0 → S2 0 33 = 0) (h1 : k < k2) (h2 : k2 ≤ n) (h3 : c.length ≤ k2 - k) : LSt S n (m + c.length) k2 S2 := by
  obtain ⟨a1, a2, a3, a4, a5, a6⟩ := h
  obtain ⟨b1, b2, b3, b4, b5⟩ := q
  refine ⟨a1.tr b1.t, ?_, b4, by omega, h2, q2 b2⟩
  rw [← a1.e8]
  exact b3
theorem LSt.sg (h : LSt S n m k S1) (x : Int32) : signM S1 x = sgn (S 8) n k x := by
  obtain ⟨-, ⟨-, -, h3, h4⟩, -⟩ := h
  unfold signM sgn tK tV
  rw [h3]
  by_cases e : tkK (S 8) n (stP (S 8) n k) = 4
  · rw [h4 (by rw [e]; decide) (by rw [e]; decide)]
  · rw [decide_eq_false e, Bool.false_and, Bool.false_and]
theorem LSt.wd (h : LSt S n m k S1) (x : Int32) : wordM S1 x = wrd (S 8) n k x := by
  obtain ⟨-, ⟨-, -, h3, h4⟩, -⟩ := h
  unfold wordM wrd tK tV
  rw [h3]
  by_cases e : tkK (S 8) n (stP (S 8) n k) = 2
  · rw [h4 (by rw [e]; decide) (by rw [e]; decide)]
  · rw [decide_eq_false e, Bool.false_and, Bool.false_and]
end LS
/-- how a text's reading ends -/
def RtQ (r : PT) (S : SS) (v : Int32) (S' : SS) : Prop := RFt S S' ∧ match r with
  | .inl e => v = -1 ∧ S' 0 36 = e.1 ∧ S' 0 37 = nI e.2
  | .inr ls => v = nI ls.length ∧ ls.length ≤ 16 ∧ ∃ m, m ≤ 400 ∧ S' 0 32 = nI m ∧ ∀ (i : Nat) (q : Line9), ls[i]? = some q → DLine S' m i q
theorem LSt.err {S S1 : SS} {n m k : Nat} {e : Int32} (h : LSt S n m k S1) : RtQ (.inl (e, tS (S 8) n k)) S (-1) (up2 (up2 S1 0 36 e) 0 37 (S1 0 22)) :=
  ⟨h.1.tr (RFr.err (m := 0)).a.t, rfl, rfl, h.2.1.2.1⟩
theorem RaQ.ok {r : PR} {S S' : SS} {n m : Nat} {v : Int32} (h : RaQ r S n m v S') (hv : ¬ v = -1) : ∃ c k1, r = .inr (c, k1) ∧ RaQ (.inr (c, k1)) S n m v S' := by
  cases r with
  | inl e => exact absurd h.2.1 hv
  | inr q => exact ⟨q.1, q.2, rfl, h⟩
theorem RaQ.no {r : PR} {S S' : SS} {n m : Nat} {v : Int32} (h : RaQ r S n m v S') (hv : v = -1) : ∃ e, r = .inl e ∧ RaQ (.inl e) S n m v S' := by
  cases r with
  | inl e => exact ⟨e, rfl, h⟩
  | inr q => exact absurd (hv.symm.trans h.2.1) (by decide)
theorem get_snoc {ls : List Line9} {q x : Line9} {i : Nat} (h : (ls ++ [x])[i]? = some q) : (i < ls.length ∧ ls[i]? = some q) ∨ (i = ls.length ∧ q = x) := by
  rcases Nat.lt_or_ge i ls.length with e | e
  · rw [List.getElem?_append_left e] at h
    exact Or.inl ⟨e, h⟩
  · rw [List.getElem?_append_right e] at h
    match hh : i - ls.length, h with
    | 0, h => cases h; exact Or.inr ⟨by omega, rfl⟩
    | j + 1, h => simp [hh] at h
theorem k_readText : CtS mX3_readText 9 (mW0 (fun (a : Nat × Nat × Nat) S => RdP S a.1 a.2.1 0 ∧ S 0 33 = 0) (fun (a : Nat × Nat × Nat) S v S' => RtQ (pTxt (S 8) a.2.1 (a.2.1 + 1) [] a.1) S v S')) := by
  intro l G d hd as h z Q hs
  match as, hs with
  | [.ref b], hs =>
    obtain ⟨S, a, hm, hp, hs⟩ := hs
    replace hp : RdP S a.1 a.2.1 0 ∧ S 0 33 = 0 := hp
    replace hs : ∀ v S' h', (RtQ (pTxt (S 8) a.2.1 (a.2.1 + 1) [] a.1) S v S') → IsMod G b S' h' → FrM b h h' → Q (some (.int v)) h' := hs
    have hf : FrM b h h := FrM.rf
    refine Ct.of rfl (Nat.le_of_ble_eq_true rfl) rfl ?_
    obtain ⟨k0, n, m9⟩ := a
    dsimp only at hp hs
    obtain ⟨⟨hd0, ro⟩, h33⟩ := hp
    have hn4 := ro.2.1
    have loop : ∀ (f : Nat) (ls : List Line9) (k m : Nat) (i : Int32) (S1 : SS) (h1 : AH), n - k < f → i = nI ls.length → ls.length ≤ 16 → pTxt (S 8) n f ls k = pTxt (S 8) n (n + 1) [] k0 → LSt S n m k S1 → (∀ (i : Nat) (q : Line9), ls[i]? = some q → DLine S1 m i q) → IsMod G b S1 h1 → FrM b h h1 → ∀ J : LL, X l G mX3_readText (rmK d 0 0) (TGm G (fun v h' z' => Q v h' ∧ z' = z) 0 0) 0 0 2 ([(0, .ref b), (1, .int i)] ++ J) [] h1 z := by
      intro f
      induction f with
      | zero => intro ls k m i S1 h1 hf; omega
      | succ f ih =>
      intro ls k m i S1 h1 hnf hi hl16 hE hL hD hm hf J
      subst hi
      refine X.cut _ J rfl ?_
      have hL0 := hL
      have hkn : k ≤ n := hL.2.2.2.2.1
      have hlen : ∀ {i : Nat} {q : Line9}, ls[i]? = some q → i < ls.length := fun hq => (List.getElem?_eq_some_iff.mp hq).1
      refine X.w wkX3_readText (fcons (ceV k_isSign mmR1 ckX3_210 rfl mrR1 (by omega) rfl) (fcons (ceV k_readAny mmW0 ckX3_237 rfl mrW0 (by omega) rfl) (fcons (ceV k_readSum mmW0 ckX3_216 rfl mrW0 (by omega) rfl) (fcons (ceV k_reads mmV0 ckX3_203 rfl mrV0 (by omega) rfl) (fcons (ceV k_errs mmW1 ckX3_197 rfl mrW1 (by omega) rfl) (fcons (ceV k_isWord mmR1 ckX3_225 rfl mrR1 (by omega) rfl) fnil)))))) [2] 58 rfl ?_
      refine Exists.intro _ (Exists.intro () (And.intro hm (And.intro trivial ?_)))
      intro v4 e4
      subst e4
      refine And.intro (fun b7 => ?_) (fun b7 => ?_)
      · simp only [cP, cN, bI_0, Bool.not_eq_false, lt_nle, Decidable.not_not] at b7
        rw [hL0.wd] at b7
        refine gF (by first | assumption | exact hm.obj | exact hm.arr _ rfl) ?_
        refine And.intro (fun b123 => ?_) (fun b123 => ?_)
        · simp only [cP, cN, bI_0, Bool.not_eq_false, lt_nle, Decidable.not_not] at b123
          refine Exists.intro _ (Exists.intro () (And.intro hm (And.intro trivial ?_)))
          intro v132 S132 h132 p132 hm hf132
          have hf := hf.tr hf132
          (try dsimp only at p132)
          obtain ⟨rfl, rfl⟩ := p132
          have hb : ¬ tK (S 8) n k = 0 := fun q => b123 (hL0.2.1.2.2.1.trans q)
          rw [pTxt, if_neg (by rw [b7]; decide), if_neg hb] at hE
          rw [← hE] at hs
          exact And.intro (hs _ _ _ hL0.err hm hf) rfl
        · simp only [cP, cN, bI_0, Bool.not_eq_false, lt_nle, Decidable.not_not] at b123
          have hb : tK (S 8) n k = 0 := hL0.2.1.2.2.1.symm.trans b123
          rw [pTxt, if_neg (by rw [b7]; decide), if_pos hb] at hE
          rw [← hE] at hs
          exact And.intro (hs _ _ _ ⟨hL0.1, rfl, hl16, m, by have := hL0.2.2.2.1; omega, hL0.2.2.1, hD⟩ hm hf) rfl
      · simp only [cP, cN, bI_0, Bool.not_eq_false, lt_nle, Decidable.not_not] at b7
        rw [hL0.wd] at b7
        have hK0 : ¬ tK (S 8) n k = 0 := by rw [(wrd_K b7).1]; decide
        have hadv := tN_adv hkn hK0
        refine And.intro (fun b13 => ?_) (fun b13 => ?_)
        · simp only [cP, cN, bI_0, Bool.not_eq_false, lt_nle, Decidable.not_not] at b13
          have h16 : ¬ ls.length = 16 := fun q => b13 (by rw [q]; rfl)
          have hl15 : ls.length < 16 := by omega
          refine Exists.intro _ (Exists.intro (tN (S 8) n k, n) (And.intro hm (And.intro ⟨hL.2.1.1, hadv.2, ro.ft hL.1⟩ ?_)))
          intro S28 h28 p28 hm hf28
          have hf := hf.tr hf28
          (try dsimp only at p28)
          obtain ⟨f28, rfl, hFO, hTk⟩ := p28
          replace hL := hL.read hK0 hFO hTk
          have h32 := hL.2.2.1
          replace hD : ∀ (i : Nat) (q : Line9), ls[i]? = some q → DLine (setF S1 0 f28) m i q := fun i q hq => (hD i q hq).fr (Nat.le_refl m) (fun j hj => ⟨rfl, rfl⟩) rfl rfl rfl
          refine gF (by first | assumption | exact hm.obj | exact hm.arr _ rfl) ?_
          refine gF (by first | assumption | exact hm.obj | exact hm.arr _ rfl) ?_
          refine sA (by first | assumption | exact hm.obj | exact hm.arr _ rfl) (ixE (j := 16 + ls.length) (by rw [show (16 : Int32) = nI 16 from rfl, nI_add]) (by omega) (by decide)) (by first | exact hm.N | exact hm.No _) ?_
          intro h40 e40
          have hm := hm.uA e40 rfl; have hf := hf.uA e40 (by decide)
          replace hL := hL.line (o := 11) (j := ls.length) (x := setF S1 0 f28 0 32) (by decide)
          replace hD : ∀ (i : Nat) (q : Line9), ls[i]? = some q → DLine (up2 (setF S1 0 f28) 11 (16 + ls.length) (setF S1 0 f28 0 32)) m i q := fun i q hq => (hD i q hq).fr (Nat.le_refl m) (fun j hj => ⟨rfl, rfl⟩) rfl (by rw [up2_ap, if_neg (by have := hlen hq; omega)]) rfl
          refine Exists.intro _ (Exists.intro (tN (S 8) n k, n, m) (And.intro hm (And.intro (hL.p ro) ?_)))
          intro v42 S42 h42 p42 hm hf42
          have hf := hf.tr hf42
          (try dsimp only at p42)
          rw [hL.1.e8] at p42
          refine And.intro (fun b46 => ?_) (fun b46 => ?_)
          · simp only [cP, cN, bI_0, Bool.not_eq_false, lt_nle, Decidable.not_not] at b46
            obtain ⟨g, k1, hu, p42⟩ := p42.ok b46
            have hg := pSum_g hadv.2 g k1 hu
            replace hL := hL.sum p42 hg.1 hg.2.1 hg.2.2.1
            have hCg : CodeAt S42 (400 + m) g := p42.2.2.2.2
            have hRs := p42.1
            replace hD : ∀ (i : Nat) (q : Line9), ls[i]? = some q → DLine S42 m i q := fun i q hq => (hD i q hq).fr (Nat.le_refl m) (fun j hj => hRs.2.2 j hj) (by rw [hRs.1 10 (by decide) (by decide) (by decide)]) (by rw [hRs.1 11 (by decide) (by decide) (by decide)]) (by rw [hRs.1 12 (by decide) (by decide) (by decide)])
            have e11 : S42 11 (16 + ls.length) = nI m := by rw [hRs.1 11 (by decide) (by decide) (by decide), up2_ap, if_pos ⟨rfl, rfl⟩]; exact h32
            have hLa := hL
            refine gF (by first | assumption | exact hm.obj | exact hm.arr _ rfl) ?_
            refine gF (by first | assumption | exact hm.obj | exact hm.arr _ rfl) ?_
            refine sA (by first | assumption | exact hm.obj | exact hm.arr _ rfl) (ixE (j := 16 + ls.length) (by rw [show (16 : Int32) = nI 16 from rfl, nI_add]) (by omega) (by decide)) (by first | exact hm.N | exact hm.No _) ?_
            intro h60 e60
            have hm := hm.uA e60 rfl; have hf := hf.uA e60 (by decide)
            replace hL := hL.line (o := 10) (j := ls.length) (x := S42 0 32) (by decide)
            replace hD : ∀ (i : Nat) (q : Line9), ls[i]? = some q → DLine (up2 S42 10 (16 + ls.length) (S42 0 32)) (m + g.length) i q := fun i q hq => (hD i q hq).fr (by omega) (fun j hj => ⟨rfl, rfl⟩) (by rw [up2_ap, if_neg (by have := hlen hq; omega)]) rfl rfl
            have e10 : up2 S42 10 (16 + ls.length) (S42 0 32) 10 (16 + ls.length) = nI (m + g.length) := by rw [up2_ap, if_pos ⟨rfl, rfl⟩]; exact hLa.2.2.1
            refine Exists.intro _ (Exists.intro () (And.intro hm (And.intro trivial ?_)))
            intro v63 e63
            subst e63
            refine And.intro (fun b66 => ?_) (fun b66 => ?_)
            · simp only [cP, cN, bI_0, Bool.not_eq_false, lt_nle, Decidable.not_not] at b66
              rw [hL.wd] at b66
              have hL1 := hL
              refine gF (by first | assumption | exact hm.obj | exact hm.arr _ rfl) ?_
              refine gF (by first | assumption | exact hm.obj | exact hm.arr _ rfl) ?_
              refine sA (by first | assumption | exact hm.obj | exact hm.arr _ rfl) (ixE (j := 16 + ls.length) (by rw [show (16 : Int32) = nI 16 from rfl, nI_add]) (by omega) (by decide)) (by first | exact hm.N | exact hm.No _) ?_
              intro h92 e92
              have hm := hm.uA e92 rfl; have hf := hf.uA e92 (by decide)
              replace hL := hL.line' (o := 12) (j := ls.length) hm (by decide)
              refine Exists.intro _ (Exists.intro () (And.intro hm (And.intro trivial ?_)))
              intro v96 e96
              subst e96
              refine And.intro (fun b99 => ?_) (fun b99 => ?_)
              · simp only [cP, cN, bI_0, Bool.not_eq_false, lt_nle, Decidable.not_not] at b99
                rw [hL.sg] at b99
                obtain ⟨kx, hkx⟩ : ∃ kx, kx = k1 := ⟨_, rfl⟩
                have hKz : ¬ tK (S 8) n kx = 0 := by rw [hkx, (sgn_K b99).1]; decide
                have hadvz := tN_adv (by rw [hkx]; exact hL1.2.2.2.2.1) hKz
                refine Exists.intro _ (Exists.intro (tN (S 8) n kx, n) (And.intro hm (And.intro ⟨by rw [hkx]; exact hL.2.1.1, hadvz.2, ro.ft hL.1⟩ ?_)))
                intro S109 h109 p109 hm hf109
                have hf := hf.tr hf109
                (try dsimp only at p109)
                obtain ⟨f109, rfl, hFO2, hTk2⟩ := p109
                subst hkx
                have hKx : ¬ tK (S 8) n kx = 0 := by rw [(sgn_K b99).1]; decide
                have hadvx := tN_adv hL1.2.2.2.2.1 hKx
                replace hL := hL.read hKx hFO2 hTk2
                rw [pTxt, if_pos b7, if_neg h16, hu] at hE
                dsimp only at hE
                rw [if_neg (by rw [b66]; decide), if_pos b99] at hE
                refine ih (ls ++ [(g, none)]) (tN (S 8) n kx) (m + g.length) _ _ _ (by omega) (by rw [List.length_append]; exact nI_1 ls.length) (by rw [List.length_append]; show ls.length + 1 ≤ 16; omega) hE hL ?_ hm hf [(2, .int (16 + nI ls.length))]
                intro i q hq
                rcases get_snoc hq with ⟨hil, hq⟩ | ⟨rfl, rfl⟩
                · exact (hD i q hq).fr (by omega) (fun j hj => ⟨rfl, rfl⟩) rfl rfl (by show up2 (up2 S42 10 (16 + ls.length) (S42 0 32)) 12 (16 + ls.length) _ 12 (16 + i) = _; rw [up2_ap, if_neg (by omega)])
                · refine ⟨m, m + g.length, m + g.length, e11, e10, ?_, rfl, Nat.le_refl _, hCg.eq rfl rfl, hg.2.2.2.up (by unfold DEP; omega), by omega, rfl⟩
                  show up2 (up2 S42 10 (16 + ls.length) (S42 0 32)) 12 (16 + ls.length) _ 12 (16 + ls.length) = _
                  rw [up2_ap, if_pos ⟨rfl, rfl⟩]
                  exact hL1.2.2.1
              · simp only [cP, cN, bI_0, Bool.not_eq_false, lt_nle, Decidable.not_not] at b99
                rw [hL.sg] at b99
                refine Exists.intro _ (Exists.intro () (And.intro hm (And.intro trivial ?_)))
                intro v104 S104 h104 p104 hm hf104
                have hf := hf.tr hf104
                (try dsimp only at p104)
                obtain ⟨rfl, rfl⟩ := p104
                rw [pTxt, if_pos b7, if_neg h16, hu] at hE
                dsimp only at hE
                rw [if_neg (by rw [b66]; decide), if_neg (by rw [b99]; decide)] at hE
                rw [← hE] at hs
                exact And.intro (hs _ _ _ hL.err hm hf) rfl
            · simp only [cP, cN, bI_0, Bool.not_eq_false, lt_nle, Decidable.not_not] at b66
              rw [hL.wd] at b66
              have hK1 : ¬ tK (S 8) n k1 = 0 := by rw [(wrd_K b66).1]; decide
              have hadv1 := tN_adv hg.2.1 hK1
              refine Exists.intro _ (Exists.intro (tN (S 8) n k1, n) (And.intro hm (And.intro ⟨hL.2.1.1, hadv1.2, ro.ft hL.1⟩ ?_)))
              intro S70 h70 p70 hm hf70
              have hf := hf.tr hf70
              (try dsimp only at p70)
              obtain ⟨f70, rfl, hFO1, hTk1⟩ := p70
              replace hL := hL.read hK1 hFO1 hTk1
              replace hD : ∀ (i : Nat) (q : Line9), ls[i]? = some q → DLine (setF (up2 S42 10 (16 + ls.length) (S42 0 32)) 0 f70) (m + g.length) i q := fun i q hq => (hD i q hq).fr (Nat.le_refl _) (fun j hj => ⟨rfl, rfl⟩) rfl rfl rfl
              refine Exists.intro _ (Exists.intro (tN (S 8) n k1, n, m + g.length) (And.intro hm (And.intro ⟨hL.p ro, hL.2.2.2.2.2⟩ ?_)))
              intro v74 S74 h74 p74 hm hf74
              have hf := hf.tr hf74
              (try dsimp only at p74)
              rw [hL.1.e8] at p74
              refine And.intro (fun b78 => ?_) (fun b78 => ?_)
              · simp only [cP, cN, bI_0, Bool.not_eq_false, lt_nle, Decidable.not_not] at b78
                obtain ⟨q74, q33⟩ := p74
                obtain ⟨w, k2, hu2, q74⟩ := q74.ok b78
                have hg2 := pAny_g hadv1.2 w k2 hu2
                replace hL := hL.any q74 q33 hg2.1 hg2.2.1 hg2.2.2.1
                have hCw : CodeAt S74 (400 + (m + g.length)) w := q74.2.2.2.2
                have hRw := q74.1
                replace hD : ∀ (i : Nat) (q : Line9), ls[i]? = some q → DLine S74 (m + g.length) i q := fun i q hq => (hD i q hq).fr (by omega) (fun j hj => hRw.2.2 j (by omega)) (by rw [hRw.1 10 (by decide) (by decide) (by decide) (by decide)]) (by rw [hRw.1 11 (by decide) (by decide) (by decide) (by decide)]) (by rw [hRw.1 12 (by decide) (by decide) (by decide) (by decide)])
                have e11 : S74 11 (16 + ls.length) = nI m := by rw [hRw.1 11 (by decide) (by decide) (by decide) (by decide)]; exact e11
                have e10 : S74 10 (16 + ls.length) = nI (m + g.length) := by rw [hRw.1 10 (by decide) (by decide) (by decide) (by decide)]; exact e10
                have hCg : CodeAt S74 (400 + m) g := hCg.lt (x := 400 + (m + g.length)) (fun j hj => hRw.2.2 j hj) (by omega)
                have hL1 := hL
                refine gF (by first | assumption | exact hm.obj | exact hm.arr _ rfl) ?_
                refine gF (by first | assumption | exact hm.obj | exact hm.arr _ rfl) ?_
                refine sA (by first | assumption | exact hm.obj | exact hm.arr _ rfl) (ixE (j := 16 + ls.length) (by rw [show (16 : Int32) = nI 16 from rfl, nI_add]) (by omega) (by decide)) (by first | exact hm.N | exact hm.No _) ?_
                intro h92 e92
                have hm := hm.uA e92 rfl; have hf := hf.uA e92 (by decide)
                replace hL := hL.line' (o := 12) (j := ls.length) hm (by decide)
                refine Exists.intro _ (Exists.intro () (And.intro hm (And.intro trivial ?_)))
                intro v96 e96
                subst e96
                refine And.intro (fun b99 => ?_) (fun b99 => ?_)
                · simp only [cP, cN, bI_0, Bool.not_eq_false, lt_nle, Decidable.not_not] at b99
                  rw [hL.sg] at b99
                  obtain ⟨kx, hkx⟩ : ∃ kx, kx = k2 := ⟨_, rfl⟩
                  have hKz : ¬ tK (S 8) n kx = 0 := by rw [hkx, (sgn_K b99).1]; decide
                  have hadvz := tN_adv (by rw [hkx]; exact hL1.2.2.2.2.1) hKz
                  refine Exists.intro _ (Exists.intro (tN (S 8) n kx, n) (And.intro hm (And.intro ⟨by rw [hkx]; exact hL.2.1.1, hadvz.2, ro.ft hL.1⟩ ?_)))
                  intro S109 h109 p109 hm hf109
                  have hf := hf.tr hf109
                  (try dsimp only at p109)
                  obtain ⟨f109, rfl, hFO2, hTk2⟩ := p109
                  subst hkx
                  have hKx : ¬ tK (S 8) n kx = 0 := by rw [(sgn_K b99).1]; decide
                  have hadvx := tN_adv hL1.2.2.2.2.1 hKx
                  replace hL := hL.read hKx hFO2 hTk2
                  rw [pTxt, if_pos b7, if_neg h16, hu] at hE
                  dsimp only at hE
                  rw [if_pos b66, hu2] at hE
                  dsimp only at hE
                  rw [if_pos b99] at hE
                  refine ih (ls ++ [(g, some w)]) (tN (S 8) n kx) (m + g.length + w.length) _ _ _ (by omega) (by rw [List.length_append]; exact nI_1 ls.length) (by rw [List.length_append]; show ls.length + 1 ≤ 16; omega) hE hL ?_ hm hf [(2, .int (16 + nI ls.length))]
                  intro i q hq
                  rcases get_snoc hq with ⟨hil, hq⟩ | ⟨rfl, rfl⟩
                  · exact (hD i q hq).fr (by omega) (fun j hj => ⟨rfl, rfl⟩) rfl rfl (by show up2 S74 12 (16 + ls.length) _ 12 (16 + i) = _; rw [up2_ap, if_neg (by omega)])
                  · refine ⟨m, m + g.length, m + g.length + w.length, e11, e10, ?_, rfl, Nat.le_refl _, hCg.eq rfl rfl, hg.2.2.2.up (by unfold DEP; omega), by omega, ⟨rfl, hCw.eq rfl rfl, hg2.2.2.2.up (by unfold DEP; omega)⟩⟩
                    show up2 S74 12 (16 + ls.length) _ 12 (16 + ls.length) = _
                    rw [up2_ap, if_pos ⟨rfl, rfl⟩]
                    exact hL1.2.2.1
                · simp only [cP, cN, bI_0, Bool.not_eq_false, lt_nle, Decidable.not_not] at b99
                  rw [hL.sg] at b99
                  refine Exists.intro _ (Exists.intro () (And.intro hm (And.intro trivial ?_)))
                  intro v104 S104 h104 p104 hm hf104
                  have hf := hf.tr hf104
                  (try dsimp only at p104)
                  obtain ⟨rfl, rfl⟩ := p104
                  rw [pTxt, if_pos b7, if_neg h16, hu] at hE
                  dsimp only at hE
                  rw [if_pos b66, hu2] at hE
                  dsimp only at hE
                  rw [if_neg (by rw [b99]; decide)] at hE
                  rw [← hE] at hs
                  exact And.intro (hs _ _ _ hL.err hm hf) rfl
              · simp only [cP, cN, bI_0, Bool.not_eq_false, lt_nle, Decidable.not_not] at b78
                obtain ⟨q74, q33⟩ := p74
                obtain ⟨e, hu2, q74⟩ := q74.no b78
                have hv := b78
                rw [pTxt, if_pos b7, if_neg h16, hu] at hE
                dsimp only at hE
                rw [if_pos b66, hu2] at hE
                rw [← hE] at hs
                exact And.intro (hs _ _ _ ⟨hL.1.tr q74.1.t, rfl, q74.2.2⟩ hm hf) rfl
          · simp only [cP, cN, bI_0, Bool.not_eq_false, lt_nle, Decidable.not_not] at b46
            obtain ⟨e, hu, p42⟩ := p42.no b46
            have hv := b46
            rw [pTxt, if_pos b7, if_neg h16, hu] at hE
            rw [← hE] at hs
            exact And.intro (hs _ _ _ ⟨hL.1.tr p42.1.a.t, rfl, p42.2.2⟩ hm hf) rfl
        · simp only [cP, cN, bI_0, Bool.not_eq_false, lt_nle, Decidable.not_not] at b13
          have h16 : ls.length = 16 := (nI_eq (by omega) (by decide)).mp b13
          refine Exists.intro _ (Exists.intro () (And.intro hm (And.intro trivial ?_)))
          intro v18 S18 h18 p18 hm hf18
          have hf := hf.tr hf18
          (try dsimp only at p18)
          obtain ⟨rfl, rfl⟩ := p18
          rw [pTxt, if_pos b7, if_pos h16] at hE
          rw [← hE] at hs
          exact And.intro (hs _ _ _ hL0.err hm hf) rfl
    refine X.w wkX3_readText (fcons (ceV k_isSign mmR1 ckX3_210 rfl mrR1 (by omega) rfl) (fcons (ceV k_readAny mmW0 ckX3_237 rfl mrW0 (by omega) rfl) (fcons (ceV k_readSum mmW0 ckX3_216 rfl mrW0 (by omega) rfl) (fcons (ceV k_reads mmV0 ckX3_203 rfl mrV0 (by omega) rfl) (fcons (ceV k_errs mmW1 ckX3_197 rfl mrW1 (by omega) rfl) (fcons (ceV k_isWord mmR1 ckX3_225 rfl mrR1 (by omega) rfl) fnil)))))) [2] 4 rfl ?_
    exact loop (n + 1) [] k0 0 _ _ _ (by omega) rfl (by decide) rfl ⟨RFt.rf, hd0.2.1, hd0.2.2.1, by omega, hd0.2.2.2.2.1, h33⟩ (fun i q hq => by simp at hq) hm hf []
