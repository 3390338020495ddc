set_option maxRecDepth 100000
/-! THE CLASS: small methods, what is set, what is seen -/
def psX (W : XW) (q : Int32) : Bool := isInB q 0 (W.S 0 0 16 - 1)
def wnX (W : XW) (q : Int32) : Bool := isInB q 0 (W.S 0 0 15 - 1)
theorem wC_bask {G : GG} {b law p : Nat} {S : Nat → Nat → Int32} (h : p < 6) : wC G b S law (113 + 2 * p + 1) = some (.inl (G.2.1 0, 12, .inl (S (113 + 2 * p + 1)))) := by
  unfold wC
  rw [(wK_p h).2]
  rfl
theorem up_ss {W : XW} {j o k : Nat} {x : Int32} : (W.up j o k x).S j o k = x := by
  show upN W.S j (up2 (W.S j) o k x) j o k = x
  rw [upN_s, up2_s, pk_us]
theorem off_p {p : Nat} (h : p < 6) : 113 + 2 * p < 125 ∧ 113 + 2 * p ≠ 112 := ⟨by omega, by omega⟩
theorem off_b {p : Nat} (h : p < 6) : 113 + 2 * p + 1 < 125 ∧ 113 + 2 * p + 1 ≠ 112 := ⟨by omega, by omega⟩
theorem off_r {i : Nat} (h : i < 100) : 11 + i < 125 ∧ 11 + i ≠ 112 := ⟨by omega, by omega⟩
theorem x_forgets : CtS mX0_forgets (1) (xW0 (fun (a : Unit) W => True) (fun (a : Unit) W v W' => v = 1 ∧ W' = W.uF 8 0)) := by
  intro l G d hd as h z Q hs
  match as, hs with
  | [.ref b], hs =>
    obtain ⟨W, a, hx, hp, hs⟩ := hs
    replace hp : True := hp
    replace hs : ∀ v W' h', (v = 1 ∧ W' = W.uF 8 0) → IsX G b W' h' → FrX b h h' → Q (some (.int v)) h' := hs
    have hf : FrX b h h := FrX.rf
    refine Ct.of rfl (Nat.le_of_ble_eq_true rfl) rfl ?_
    refine X.w wkX0_forgets fnil [] 6 rfl ?_
    refine pF0 (okV_W rfl) (by first | assumption | exact hx.obj | exact hx.bk | exact hx.rs | exact hx.sp | exact hx.tp | exact hx.w0.obj | exact hx.w0.arr _ rfl) (Nat.le_of_ble_eq_true rfl) (by first | exact hx.N | exact hx.No _ | exact hx.w0.N | exact hx.w0.No _) ?_
    intro h2 e2
    have hf := hf.u e2 InX.self; have hx := hx.uF e2 rfl
    refine And.intro (by first | exact Or.inl rfl | exact Or.inr rfl | exact bI_01 _) ?_
    exact And.intro (hs _ _ _ ⟨rfl, rfl⟩ hx hf) rfl
theorem x_isPerson : CtS mX0_isPerson (2) (xR1 (fun (a : Unit) q W => True) (fun (a : Unit) q W => bI (psX W q))) := by
  intro l G d hd as h z Q hs
  match as, hs with
  | [.ref b, .int q], hs =>
    obtain ⟨W, a, hx, hp, hs⟩ := hs
    replace hp : True := hp
    replace hs : ∀ r9, r9 = bI (psX W q) → Q (some (.int r9)) h := hs
    have hf : FrX b h h := FrX.rf
    refine Ct.of rfl (Nat.le_of_ble_eq_true rfl) rfl ?_
    refine X.w wkX0_isPerson (fcons (ceS c_isIn mo3 ckX0_50 (by omega) rfl) fnil) [] 10 rfl ?_
    refine gF (by first | assumption | exact hx.obj | exact hx.bk | exact hx.rs | exact hx.sp | exact hx.tp | exact hx.w0.obj | exact hx.w0.arr _ rfl) ?_
    refine gF (by first | assumption | exact hx.obj | exact hx.bk | exact hx.rs | exact hx.sp | exact hx.tp | exact hx.w0.obj | exact hx.w0.arr _ rfl) ?_
    refine And.intro (by first | exact Or.inl rfl | exact Or.inr rfl | exact bI_01 _) ?_
    exact And.intro (hs _ rfl) rfl
theorem x_isWord : CtS mX0_isWord (2) (xR1 (fun (a : Unit) q W => True) (fun (a : Unit) q W => bI (wnX W q))) := by
  intro l G d hd as h z Q hs
  match as, hs with
  | [.ref b, .int q], hs =>
    obtain ⟨W, a, hx, hp, hs⟩ := hs
    replace hp : True := hp
    replace hs : ∀ r9, r9 = bI (wnX W q) → Q (some (.int r9)) h := hs
    have hf : FrX b h h := FrX.rf
    refine Ct.of rfl (Nat.le_of_ble_eq_true rfl) rfl ?_
    refine X.w wkX0_isWord (fcons (ceS c_isIn mo3 ckX0_50 (by omega) rfl) fnil) [] 10 rfl ?_
    refine gF (by first | assumption | exact hx.obj | exact hx.bk | exact hx.rs | exact hx.sp | exact hx.tp | exact hx.w0.obj | exact hx.w0.arr _ rfl) ?_
    refine gF (by first | assumption | exact hx.obj | exact hx.bk | exact hx.rs | exact hx.sp | exact hx.tp | exact hx.w0.obj | exact hx.w0.arr _ rfl) ?_
    refine And.intro (by first | exact Or.inl rfl | exact Or.inr rfl | exact bI_01 _) ?_
    exact And.intro (hs _ rfl) rfl
def rdX (W : XW) (c r : Int32) : Bool := isCellB (W.S 0) c && isInB r 0 14
theorem x_isRound : CtS mX0_isRound (3) (xR2 (fun (a : Unit) c r W => True) (fun (a : Unit) c r W => bI (rdX W c r))) := by
  intro l G d hd as h z Q hs
  match as, hs with
  | [.ref b, .int c, .int r], hs =>
    obtain ⟨W, a, hx, hp, hs⟩ := hs
    replace hp : True := hp
    replace hs : ∀ r9, r9 = bI (rdX W c r) → Q (some (.int r9)) h := hs
    have hf : FrX b h h := FrX.rf
    refine Ct.of rfl (Nat.le_of_ble_eq_true rfl) rfl ?_
    refine X.w wkX0_isRound (fcons (ceS c_isIn mo3 ckX0_50 (by omega) rfl) (fcons (ceV c_isCell moW1 ckX0_114 rfl rcW1 (by omega) rfl) fnil)) [] 14 rfl ?_
    refine gF (by first | assumption | exact hx.obj | exact hx.bk | exact hx.rs | exact hx.sp | exact hx.tp | exact hx.w0.obj | exact hx.w0.arr _ rfl) ?_
    refine Exists.intro _ (Exists.intro _ (And.intro hx.w0 ?_))
    refine And.intro (fun b8 => ?_) (fun b8 => ?_)
    · simp only [cP, cN, bI_0, Bool.not_eq_false, lt_nle, Decidable.not_not] at b8
      refine And.intro (by first | exact Or.inl rfl | exact Or.inr rfl | exact bI_01 _) ?_
      exact And.intro (hs _ (by rw [show (rdX W c r) = false from by simp only [rdX, lt_nle, b8, decide_true, decide_false, Bool.and_true, Bool.true_and, Bool.and_false, Bool.false_and, Bool.or_true, Bool.true_or, Bool.or_false, Bool.false_or, not_true_eq_false, not_false_eq_true, Bool.not_true, Bool.not_false, decide_not, if_true, if_false, and_true, true_and, and_false, false_and, or_true, true_or, or_false, false_or, Bool.false_eq_true]]; rfl)) rfl
    · simp only [cP, cN, bI_0, Bool.not_eq_false, lt_nle, Decidable.not_not] at b8
      refine And.intro (fun b18 => ?_) (fun b18 => ?_)
      · simp only [cP, cN, bI_0, Bool.not_eq_false, lt_nle, Decidable.not_not] at b18
        refine And.intro (by first | exact Or.inl rfl | exact Or.inr rfl | exact bI_01 _) ?_
        exact And.intro (hs _ (by rw [show (rdX W c r) = false from by simp only [rdX, lt_nle, b8, b18, decide_true, decide_false, Bool.and_true, Bool.true_and, Bool.and_false, Bool.false_and, Bool.or_true, Bool.true_or, Bool.or_false, Bool.false_or, not_true_eq_false, not_false_eq_true, Bool.not_true, Bool.not_false, decide_not, if_true, if_false, and_true, true_and, and_false, false_and, or_true, true_or, or_false, false_or, Bool.false_eq_true]]; rfl)) rfl
      · simp only [cP, cN, bI_0, Bool.not_eq_false, lt_nle, Decidable.not_not] at b18
        refine And.intro (by first | exact Or.inl rfl | exact Or.inr rfl | exact bI_01 _) ?_
        exact And.intro (hs _ (by rw [show (rdX W c r) = true from by simp only [rdX, lt_nle, b8, b18, decide_true, decide_false, Bool.and_true, Bool.true_and, Bool.and_false, Bool.false_and, Bool.or_true, Bool.true_or, Bool.or_false, Bool.false_or, not_true_eq_false, not_false_eq_true, Bool.not_true, Bool.not_false, decide_not, if_true, if_false, and_true, true_and, and_false, false_and, or_true, true_or, or_false, false_or, Bool.false_eq_true]]; rfl)) rfl
theorem x_state : CtS mX0_state (1) (xW1 (fun (a : Unit) x W => True) (fun (a : Unit) x W v W' => v = W.S 0 0 18 ∧ W' = W.up 0 0 18 x)) := by
  intro l G d hd as h z Q hs
  match as, hs with
  | [.ref b, .int x], hs =>
    obtain ⟨W, a, hx, hp, hs⟩ := hs
    replace hp : True := hp
    replace hs : ∀ v W' h', (v = W.S 0 0 18 ∧ W' = W.up 0 0 18 x) → IsX G b W' h' → FrX b h h' → Q (some (.int v)) h' := hs
    have hf : FrX b h h := FrX.rf
    refine Ct.of rfl (Nat.le_of_ble_eq_true rfl) rfl ?_
    refine X.w wkX0_state fnil [] 11 rfl ?_
    refine gF (by first | assumption | exact hx.obj | exact hx.bk | exact hx.rs | exact hx.sp | exact hx.tp | exact hx.w0.obj | exact hx.w0.arr _ rfl) ?_
    refine gF (by first | assumption | exact hx.obj | exact hx.bk | exact hx.rs | exact hx.sp | exact hx.tp | exact hx.w0.obj | exact hx.w0.arr _ rfl) ?_
    refine gF (by first | assumption | exact hx.obj | exact hx.bk | exact hx.rs | exact hx.sp | exact hx.tp | exact hx.w0.obj | exact hx.w0.arr _ rfl) ?_
    refine pF0 (okV_W rfl) (by first | assumption | exact hx.obj | exact hx.bk | exact hx.rs | exact hx.sp | exact hx.tp | exact hx.w0.obj | exact hx.w0.arr _ rfl) (Nat.le_of_ble_eq_true rfl) (by first | exact hx.N | exact hx.No _ | exact hx.w0.N | exact hx.w0.No _) ?_
    intro h13 e13
    have hf := hf.u e13 (InX.o (by decide)); have hx := hx.u0 (by decide) e13 rfl
    exact And.intro (hs _ _ _ ⟨rfl, rfl⟩ hx hf) rfl
theorem x_end : CtS mX0_end (2) (xW1 (fun (a : Unit) x W => True) (fun (a : Unit) x W v W' => (isInB x 0 (W.F 1) = true ∧ v = 1 ∧ W' = W.uF 1 x) ∨ (¬ isInB x 0 (W.F 1) = true ∧ v = 0 ∧ W' = W))) := by
  intro l G d hd as h z Q hs
  match as, hs with
  | [.ref b, .int x], hs =>
    obtain ⟨W, a, hx, hp, hs⟩ := hs
    replace hp : True := hp
    replace hs : ∀ v W' h', ((isInB x 0 (W.F 1) = true ∧ v = 1 ∧ W' = W.uF 1 x) ∨ (¬ isInB x 0 (W.F 1) = true ∧ v = 0 ∧ W' = W)) → IsX G b W' h' → FrX b h h' → Q (some (.int v)) h' := hs
    have hf : FrX b h h := FrX.rf
    refine Ct.of rfl (Nat.le_of_ble_eq_true rfl) rfl ?_
    refine X.w wkX0_end (fcons (ceS c_isIn mo3 ckX0_50 (by omega) rfl) fnil) [] 12 rfl ?_
    refine gF (by first | assumption | exact hx.obj | exact hx.bk | exact hx.rs | exact hx.sp | exact hx.tp | exact hx.w0.obj | exact hx.w0.arr _ rfl) ?_
    refine And.intro (fun b9 => ?_) (fun b9 => ?_)
    · simp only [cP, cN, bI_0, Bool.not_eq_false, lt_nle, Decidable.not_not] at b9
      refine pF0 (okV_W rfl) (by first | assumption | exact hx.obj | exact hx.bk | exact hx.rs | exact hx.sp | exact hx.tp | exact hx.w0.obj | exact hx.w0.arr _ rfl) (Nat.le_of_ble_eq_true rfl) (by first | exact hx.N | exact hx.No _ | exact hx.w0.N | exact hx.w0.No _) ?_
      intro h16 e16
      have hf := hf.u e16 InX.self; have hx := hx.uF e16 rfl
      refine And.intro (by first | exact Or.inl rfl | exact Or.inr rfl | exact bI_01 _) ?_
      exact And.intro (hs _ _ _ (Or.inl ⟨b9, rfl, rfl⟩) hx hf) rfl
    · simp only [cP, cN, bI_0, Bool.not_eq_false, lt_nle, Decidable.not_not] at b9
      refine And.intro (by first | exact Or.inl rfl | exact Or.inr rfl | exact bI_01 _) ?_
      exact And.intro (hs _ _ _ (Or.inr ⟨fun q => absurd (b9.symm.trans q) (by decide), rfl, rfl⟩) hx hf) rfl
theorem x_damp : CtS mX0_damp (3) (xW2 (fun (a : Unit) c x W => True) (fun (a : Unit) c x W v W' => ((isCellB (W.S 0) c = true ∧ isInB x 0 99 = true) ∧ v = 1 ∧ W' = (W.up 0 1 (gN c) x).uF 8 0) ∨ (¬ (isCellB (W.S 0) c = true ∧ isInB x 0 99 = true) ∧ v = 0 ∧ W' = W))) := by
  intro l G d hd as h z Q hs
  match as, hs with
  | [.ref b, .int c, .int x], hs =>
    obtain ⟨W, a, hx, hp, hs⟩ := hs
    replace hp : True := hp
    replace hs : ∀ v W' h', (((isCellB (W.S 0) c = true ∧ isInB x 0 99 = true) ∧ v = 1 ∧ W' = (W.up 0 1 (gN c) x).uF 8 0) ∨ (¬ (isCellB (W.S 0) c = true ∧ isInB x 0 99 = true) ∧ v = 0 ∧ W' = W)) → IsX G b W' h' → FrX b h h' → Q (some (.int v)) h' := hs
    have hf : FrX b h h := FrX.rf
    refine Ct.of rfl (Nat.le_of_ble_eq_true rfl) rfl ?_
    refine X.w wkX0_damp (fcons (ceV x_forgets xmW0 ckX0_110 rfl xrW0 (by omega) rfl) (fcons (ceS c_isIn mo3 ckX0_50 (by omega) rfl) (fcons (ceV c_isCell moW1 ckX0_114 rfl rcW1 (by omega) rfl) fnil))) [] 20 rfl ?_
    refine gF (by first | assumption | exact hx.obj | exact hx.bk | exact hx.rs | exact hx.sp | exact hx.tp | exact hx.w0.obj | exact hx.w0.arr _ rfl) ?_
    refine Exists.intro _ (Exists.intro _ (And.intro hx.w0 ?_))
    refine And.intro (fun b8 => ?_) (fun b8 => ?_)
    · simp only [cP, cN, bI_0, Bool.not_eq_false, lt_nle, Decidable.not_not] at b8
      refine And.intro (by first | exact Or.inl rfl | exact Or.inr rfl | exact bI_01 _) ?_
      exact And.intro (hs _ _ _ (Or.inr ⟨fun q => absurd (b8.symm.trans q.1) (by decide), rfl, rfl⟩) hx hf) rfl
    · simp only [cP, cN, bI_0, Bool.not_eq_false, lt_nle, Decidable.not_not] at b8
      refine And.intro (fun b18 => ?_) (fun b18 => ?_)
      · simp only [cP, cN, bI_0, Bool.not_eq_false, lt_nle, Decidable.not_not] at b18
        refine gF (by first | assumption | exact hx.obj | exact hx.bk | exact hx.rs | exact hx.sp | exact hx.tp | exact hx.w0.obj | exact hx.w0.arr _ rfl) ?_
        refine gF (by first | assumption | exact hx.obj | exact hx.bk | exact hx.rs | exact hx.sp | exact hx.tp | exact hx.w0.obj | exact hx.w0.arr _ rfl) ?_
        refine sA (by first | assumption | exact hx.obj | exact hx.bk | exact hx.rs | exact hx.sp | exact hx.tp | exact hx.w0.obj | exact hx.w0.arr _ rfl) (isCell_IX b8) (by first | exact hx.N | exact hx.No _ | exact hx.w0.N | exact hx.w0.No _) ?_
        intro h32 e32
        have hf := hf.u e32 (InX.w (by decide) (by decide)); have hx := hx.uA (by decide) e32 (by decide) (by decide)
        refine Exists.intro _ (Exists.intro () (And.intro hx (And.intro trivial ?_)))
        intro v34 W34 h34 p34 hx hf34
        have hf := hf.tr hf34
        (try dsimp only at p34)
        obtain ⟨rfl, rfl⟩ := p34
        refine And.intro (by first | exact Or.inl rfl | exact Or.inr rfl | exact bI_01 _) ?_
        exact And.intro (hs _ _ _ (Or.inl ⟨⟨b8, b18⟩, rfl, rfl⟩) hx hf) rfl
      · simp only [cP, cN, bI_0, Bool.not_eq_false, lt_nle, Decidable.not_not] at b18
        refine And.intro (by first | exact Or.inl rfl | exact Or.inr rfl | exact bI_01 _) ?_
        exact And.intro (hs _ _ _ (Or.inr ⟨fun q => absurd (b18.symm.trans q.2) (by decide), rfl, rfl⟩) hx hf) rfl
def wdCX (W : XW) (x y u : Int32) : Prop := isInB x 0 99 = true ∧ isInB y 0 9 = true ∧ isInB u (-1) (W.S 0 0 15) = true ∧ ¬ W.S 0 0 15 = 12
theorem x_word3 : CtS mX0_word_2 (2) (xW3 (fun (a : Unit) x y u W => Bd 12 (W.S 0 0 15)) (fun (a : Unit) x y u W v W' => (wdCX W x y u ∧ v = W.S 0 0 15 ∧ W' = ((((W.up 0 7 (gN (W.S 0 0 15)) x).up 0 8 (gN (W.S 0 0 15)) y).up 0 9 (gN (W.S 0 0 15)) u).up 0 0 15 (W.S 0 0 15 + 1)).uF 8 0) ∨ (¬ wdCX W x y u ∧ v = -1 ∧ W' = W))) := by
  intro l G d hd as h z Q hs
  match as, hs with
  | [.ref b, .int x, .int y, .int u], hs =>
    obtain ⟨W, a, hx, hp, hs⟩ := hs
    replace hp : Bd 12 (W.S 0 0 15) := hp
    replace hs : ∀ v W' h', ((wdCX W x y u ∧ v = W.S 0 0 15 ∧ W' = ((((W.up 0 7 (gN (W.S 0 0 15)) x).up 0 8 (gN (W.S 0 0 15)) y).up 0 9 (gN (W.S 0 0 15)) u).up 0 0 15 (W.S 0 0 15 + 1)).uF 8 0) ∨ (¬ wdCX W x y u ∧ v = -1 ∧ W' = W)) → IsX G b W' h' → FrX b h h' → Q (some (.int v)) h' := hs
    have hf : FrX b h h := FrX.rf
    refine Ct.of rfl (Nat.le_of_ble_eq_true rfl) rfl ?_
    refine X.w wkX0_word_2 (fcons (ceV x_forgets xmW0 ckX0_110 rfl xrW0 (by omega) rfl) (fcons (ceS c_isIn mo3 ckX0_50 (by omega) rfl) fnil)) [] 53 rfl ?_
    refine gF (by first | assumption | exact hx.obj | exact hx.bk | exact hx.rs | exact hx.sp | exact hx.tp | exact hx.w0.obj | exact hx.w0.arr _ rfl) ?_
    refine gF (by first | assumption | exact hx.obj | exact hx.bk | exact hx.rs | exact hx.sp | exact hx.tp | exact hx.w0.obj | exact hx.w0.arr _ rfl) ?_
    refine And.intro (fun b16 => ?_) (fun b16 => ?_)
    · simp only [cP, cN, bI_0, Bool.not_eq_false, lt_nle, Decidable.not_not] at b16
      exact And.intro (hs _ _ _ (Or.inr ⟨fun q => absurd (b16.symm.trans q.1) (by decide), rfl, rfl⟩) hx hf) rfl
    · simp only [cP, cN, bI_0, Bool.not_eq_false, lt_nle, Decidable.not_not] at b16
      refine And.intro (fun b26 => ?_) (fun b26 => ?_)
      · simp only [cP, cN, bI_0, Bool.not_eq_false, lt_nle, Decidable.not_not] at b26
        exact And.intro (hs _ _ _ (Or.inr ⟨fun q => absurd (b26.symm.trans q.2.1) (by decide), rfl, rfl⟩) hx hf) rfl
      · simp only [cP, cN, bI_0, Bool.not_eq_false, lt_nle, Decidable.not_not] at b26
        refine And.intro (fun b36 => ?_) (fun b36 => ?_)
        · simp only [cP, cN, bI_0, Bool.not_eq_false, lt_nle, Decidable.not_not] at b36
          exact And.intro (hs _ _ _ (Or.inr ⟨fun q => absurd (b36.symm.trans q.2.2.1) (by decide), rfl, rfl⟩) hx hf) rfl
        · simp only [cP, cN, bI_0, Bool.not_eq_false, lt_nle, Decidable.not_not] at b36
          refine And.intro (fun b43 => ?_) (fun b43 => ?_)
          · simp only [cP, cN, bI_0, Bool.not_eq_false, lt_nle, Decidable.not_not] at b43
            have hk : gN (W.S 0 0 15) < 12 := by
              have h8 := hp.2
              rcases Nat.lt_or_ge (gN (W.S 0 0 15)) 12 with q | q
              · exact q
              · exact absurd (by show W.S 0 0 15 = 12; rw [hp.1, show gN (W.S 0 0 15) = 12 from by omega]; rfl) b43
            refine gF (by first | assumption | exact hx.obj | exact hx.bk | exact hx.rs | exact hx.sp | exact hx.tp | exact hx.w0.obj | exact hx.w0.arr _ rfl) ?_
            refine gF (by first | assumption | exact hx.obj | exact hx.bk | exact hx.rs | exact hx.sp | exact hx.tp | exact hx.w0.obj | exact hx.w0.arr _ rfl) ?_
            refine sA (by first | assumption | exact hx.obj | exact hx.bk | exact hx.rs | exact hx.sp | exact hx.tp | exact hx.w0.obj | exact hx.w0.arr _ rfl) (ixE hp.1 hk (by decide)) (by first | exact hx.N | exact hx.No _ | exact hx.w0.N | exact hx.w0.No _) ?_
            intro h58 e58
            have hf := hf.u e58 (InX.w (by decide) (by decide)); have hx := hx.uA (by decide) e58 (by decide) (by decide)
            refine gF (by first | assumption | exact hx.obj | exact hx.bk | exact hx.rs | exact hx.sp | exact hx.tp | exact hx.w0.obj | exact hx.w0.arr _ rfl) ?_
            refine gF (by first | assumption | exact hx.obj | exact hx.bk | exact hx.rs | exact hx.sp | exact hx.tp | exact hx.w0.obj | exact hx.w0.arr _ rfl) ?_
            refine sA (by first | assumption | exact hx.obj | exact hx.bk | exact hx.rs | exact hx.sp | exact hx.tp | exact hx.w0.obj | exact hx.w0.arr _ rfl) (ixE hp.1 hk (by decide)) (by first | exact hx.N | exact hx.No _ | exact hx.w0.N | exact hx.w0.No _) ?_
            intro h69 e69
            have hf := hf.u e69 (InX.w (by decide) (by decide)); have hx := hx.uA (by decide) e69 (by decide) (by decide)
            refine gF (by first | assumption | exact hx.obj | exact hx.bk | exact hx.rs | exact hx.sp | exact hx.tp | exact hx.w0.obj | exact hx.w0.arr _ rfl) ?_
            refine gF (by first | assumption | exact hx.obj | exact hx.bk | exact hx.rs | exact hx.sp | exact hx.tp | exact hx.w0.obj | exact hx.w0.arr _ rfl) ?_
            refine sA (by first | assumption | exact hx.obj | exact hx.bk | exact hx.rs | exact hx.sp | exact hx.tp | exact hx.w0.obj | exact hx.w0.arr _ rfl) (ixE hp.1 hk (by decide)) (by first | exact hx.N | exact hx.No _ | exact hx.w0.N | exact hx.w0.No _) ?_
            intro h80 e80
            have hf := hf.u e80 (InX.w (by decide) (by decide)); have hx := hx.uA (by decide) e80 (by decide) (by decide)
            refine gF (by first | assumption | exact hx.obj | exact hx.bk | exact hx.rs | exact hx.sp | exact hx.tp | exact hx.w0.obj | exact hx.w0.arr _ rfl) ?_
            refine gF (by first | assumption | exact hx.obj | exact hx.bk | exact hx.rs | exact hx.sp | exact hx.tp | exact hx.w0.obj | exact hx.w0.arr _ rfl) ?_
            refine pF0 (okV_W rfl) (by first | assumption | exact hx.obj | exact hx.bk | exact hx.rs | exact hx.sp | exact hx.tp | exact hx.w0.obj | exact hx.w0.arr _ rfl) (Nat.le_of_ble_eq_true rfl) (by first | exact hx.N | exact hx.No _ | exact hx.w0.N | exact hx.w0.No _) ?_
            intro h91 e91
            have hf := hf.u e91 (InX.o (by decide)); have hx := hx.u0 (by decide) e91 rfl
            refine Exists.intro _ (Exists.intro () (And.intro hx (And.intro trivial ?_)))
            intro v95 W95 h95 p95 hx hf95
            have hf := hf.tr hf95
            (try dsimp only at p95)
            obtain ⟨rfl, rfl⟩ := p95
            exact And.intro (hs _ _ _ (Or.inl ⟨⟨b16, b26, b36, b43⟩, rfl, rfl⟩) hx hf) rfl
          · simp only [cP, cN, bI_0, Bool.not_eq_false, lt_nle, Decidable.not_not] at b43
            exact And.intro (hs _ _ _ (Or.inr ⟨fun q => q.2.2.2 b43, rfl, rfl⟩) hx hf) rfl
def prS (S : SS) (p : Nat) (c : Int32) : SS := setP S (113 + 2 * p) c 0 0 (cpy 12 (S (113 + 2 * p + 1)) (fun _ => 0))
theorem Fr.of2 {b p : Nat} {h h2 : AH} (hp : p < 6) (hf2 : Fr2 (b + (113 + 2 * p)) h h2) : Fr b h h2 := Fr.rf.pers hp hf2
theorem x_person : CtS mX0_person (3) (xW1 (fun (a : Unit) c W => Bd 6 (W.S 0 0 16)) (fun (a : Unit) c W v W' => ((isCellB (W.S 0) c = true ∧ ¬ W.S 0 0 16 = 6) ∧ v = W.S 0 0 16 ∧ W' = ((W.uS 0 (prS (W.S 0) (gN (W.S 0 0 16)) c)).up 0 0 16 (W.S 0 0 16 + 1)).uF 8 0) ∨ (¬ (isCellB (W.S 0) c = true ∧ ¬ W.S 0 0 16 = 6) ∧ v = -1 ∧ W' = W))) := by
  intro l G d hd as h z Q hs
  match as, hs with
  | [.ref b, .int c], hs =>
    obtain ⟨W, a, hx, hp, hs⟩ := hs
    replace hp : Bd 6 (W.S 0 0 16) := hp
    replace hs : ∀ v W' h', (((isCellB (W.S 0) c = true ∧ ¬ W.S 0 0 16 = 6) ∧ v = W.S 0 0 16 ∧ W' = ((W.uS 0 (prS (W.S 0) (gN (W.S 0 0 16)) c)).up 0 0 16 (W.S 0 0 16 + 1)).uF 8 0) ∨ (¬ (isCellB (W.S 0) c = true ∧ ¬ W.S 0 0 16 = 6) ∧ v = -1 ∧ W' = W)) → IsX G b W' h' → FrX b h h' → Q (some (.int v)) h' := hs
    have hf : FrX b h h := FrX.rf
    refine Ct.of rfl (Nat.le_of_ble_eq_true rfl) rfl ?_
    refine X.w wkX0_person (fcons (ceV x_forgets xmW0 ckX0_110 rfl xrW0 (by omega) rfl) (fcons (ceV c_pBegins moPB ckX0_134 rfl rcPB (by omega) rfl) (fcons (ceV c_isCell moW1 ckX0_114 rfl rcW1 (by omega) rfl) fnil))) [] 36 rfl ?_
    refine gF (by first | assumption | exact hx.obj | exact hx.bk | exact hx.rs | exact hx.sp | exact hx.tp | exact hx.w0.obj | exact hx.w0.arr _ rfl) ?_
    refine Exists.intro _ (Exists.intro _ (And.intro hx.w0 ?_))
    refine And.intro (fun b8 => ?_) (fun b8 => ?_)
    · simp only [cP, cN, bI_0, Bool.not_eq_false, lt_nle, Decidable.not_not] at b8
      exact And.intro (hs _ _ _ (Or.inr ⟨fun q => absurd (b8.symm.trans q.1) (by decide), rfl, rfl⟩) hx hf) rfl
    · simp only [cP, cN, bI_0, Bool.not_eq_false, lt_nle, Decidable.not_not] at b8
      refine gF (by first | assumption | exact hx.obj | exact hx.bk | exact hx.rs | exact hx.sp | exact hx.tp | exact hx.w0.obj | exact hx.w0.arr _ rfl) ?_
      refine gF (by first | assumption | exact hx.obj | exact hx.bk | exact hx.rs | exact hx.sp | exact hx.tp | exact hx.w0.obj | exact hx.w0.arr _ rfl) ?_
      refine And.intro (fun b20 => ?_) (fun b20 => ?_)
      · simp only [cP, cN, bI_0, Bool.not_eq_false, lt_nle, Decidable.not_not] at b20
        have hk : gN (W.S 0 0 16) < 6 := by
          have h8 := hp.2
          rcases Nat.lt_or_ge (gN (W.S 0 0 16)) 6 with q | q
          · exact q
          · exact absurd (by show W.S 0 0 16 = 6; rw [hp.1, show gN (W.S 0 0 16) = 6 from by omega]; rfl) b20
        refine gF (by first | assumption | exact hx.obj | exact hx.bk | exact hx.rs | exact hx.sp | exact hx.tp | exact hx.w0.obj | exact hx.w0.arr _ rfl) ?_
        refine gF (by first | assumption | exact hx.obj | exact hx.bk | exact hx.rs | exact hx.sp | exact hx.tp | exact hx.w0.obj | exact hx.w0.arr _ rfl) ?_
        refine gF (by first | assumption | exact hx.obj | exact hx.bk | exact hx.rs | exact hx.sp | exact hx.tp | exact hx.w0.obj | exact hx.w0.arr _ rfl) ?_
        refine gF (by first | assumption | exact hx.obj | exact hx.bk | exact hx.rs | exact hx.sp | exact hx.tp | exact hx.w0.obj | exact hx.w0.arr _ rfl) ?_
        refine gR (by first | assumption | exact hx.obj | exact hx.bk | exact hx.rs | exact hx.sp | exact hx.tp | exact hx.w0.obj | exact hx.w0.arr _ rfl) (by decide) (ixE hp.1 hk (by decide)) (by exact rfl) ?_
        refine Exists.intro _ (Exists.intro _ (Exists.intro _ (Exists.intro _ (And.intro (hx.w0.pers hk) ?_))))
        intro h41 hP41 hf41
        have hw41 := hx.w0.uP hk hP41 hf41
        have hf := hf.w (j := 0) (by decide) (Fr.of2 hk hf41)
        have hx := hx.wood (j := 0) (by decide) hw41 (Fr.of2 hk hf41)
        replace hx : IsX G b (W.uS 0 (prS (W.S 0) (gN (W.S 0 0 16)) c)) h41 := hx
        have e16 : (W.uS 0 (prS (W.S 0) (gN (W.S 0 0 16)) c)).S 0 0 16 = W.S 0 0 16 := by
          show upN W.S 0 (prS (W.S 0) (gN (W.S 0 0 16)) c) 0 0 16 = W.S 0 0 16
          rw [upN_s]
          unfold prS setP
          rw [setF_n (by omega), setF_n (by omega)]
        refine gF (by first | assumption | exact hx.obj | exact hx.bk | exact hx.rs | exact hx.sp | exact hx.tp | exact hx.w0.obj | exact hx.w0.arr _ rfl) ?_
        refine gF (by first | assumption | exact hx.obj | exact hx.bk | exact hx.rs | exact hx.sp | exact hx.tp | exact hx.w0.obj | exact hx.w0.arr _ rfl) ?_
        refine pF0 (okV_W rfl) (by first | assumption | exact hx.obj | exact hx.bk | exact hx.rs | exact hx.sp | exact hx.tp | exact hx.w0.obj | exact hx.w0.arr _ rfl) (Nat.le_of_ble_eq_true rfl) (by first | exact hx.N | exact hx.No _ | exact hx.w0.N | exact hx.w0.No _) ?_
        intro h54 e54
        have hf := hf.u e54 (InX.o (by decide)); have hx := hx.u0 (by decide) e54 rfl
        refine Exists.intro _ (Exists.intro () (And.intro hx (And.intro trivial ?_)))
        intro v58 W58 h58 p58 hx hf58
        have hf := hf.tr hf58
        (try dsimp only at p58)
        obtain ⟨rfl, rfl⟩ := p58
        refine gF (by first | assumption | exact hx.obj | exact hx.bk | exact hx.rs | exact hx.sp | exact hx.tp | exact hx.w0.obj | exact hx.w0.arr _ rfl) ?_
        refine gF (by first | assumption | exact hx.obj | exact hx.bk | exact hx.rs | exact hx.sp | exact hx.tp | exact hx.w0.obj | exact hx.w0.arr _ rfl) ?_
        refine And.intro (hs _ _ _ (Or.inl ⟨⟨b8, b20⟩, ?_, ?_⟩) hx hf) rfl
        · show ((W.uS 0 (prS (W.S 0) (gN (W.S 0 0 16)) c)).up 0 0 16 ((W.uS 0 (prS (W.S 0) (gN (W.S 0 0 16)) c)).S 0 0 16 + 1)).S 0 0 16 - 1 = _
          rw [up_ss, e16, hp.1, nI_1, nI_pred]
        · show ((W.uS 0 (prS (W.S 0) (gN (W.S 0 0 16)) c)).up 0 0 16 ((W.uS 0 (prS (W.S 0) (gN (W.S 0 0 16)) c)).S 0 0 16 + 1)).uF 8 0 = _
          rw [e16]
      · simp only [cP, cN, bI_0, Bool.not_eq_false, lt_nle, Decidable.not_not] at b20
        exact And.intro (hs _ _ _ (Or.inr ⟨fun q => q.2 b20, rfl, rfl⟩) hx hf) rfl
def faultX (W : XW) (w : Int32) : Int32 := if w = 0 then W.F 2 else if w = 1 then W.F 3 else -1
theorem x_fault : CtS mX0_fault (1) (xR1 (fun (a : Unit) w W => True) (fun (a : Unit) w W => faultX W w)) := by
  intro l G d hd as h z Q hs
  match as, hs with
  | [.ref b, .int w], hs =>
    obtain ⟨W, a, hx, hp, hs⟩ := hs
    replace hp : True := hp
    replace hs : ∀ r9, r9 = faultX W w → Q (some (.int r9)) h := hs
    have hf : FrX b h h := FrX.rf
    refine Ct.of rfl (Nat.le_of_ble_eq_true rfl) rfl ?_
    refine X.w wkX0_fault fnil [] 10 rfl ?_
    refine And.intro (fun b1 => ?_) (fun b1 => ?_)
    · simp only [cP, cN, bI_0, Bool.not_eq_false, lt_nle, Decidable.not_not] at b1
      refine And.intro (fun b13 => ?_) (fun b13 => ?_)
      · simp only [cP, cN, bI_0, Bool.not_eq_false, lt_nle, Decidable.not_not] at b13
        exact And.intro (hs _ (by unfold faultX; rw [if_neg b1, if_neg b13])) rfl
      · simp only [cP, cN, bI_0, Bool.not_eq_false, lt_nle, Decidable.not_not] at b13
        refine gF (by first | assumption | exact hx.obj | exact hx.bk | exact hx.rs | exact hx.sp | exact hx.tp | exact hx.w0.obj | exact hx.w0.arr _ rfl) ?_
        exact And.intro (hs _ (by unfold faultX; rw [if_neg b1, if_pos b13])) rfl
    · simp only [cP, cN, bI_0, Bool.not_eq_false, lt_nle, Decidable.not_not] at b1
      refine gF (by first | assumption | exact hx.obj | exact hx.bk | exact hx.rs | exact hx.sp | exact hx.tp | exact hx.w0.obj | exact hx.w0.arr _ rfl) ?_
      exact And.intro (hs _ (by unfold faultX; rw [if_pos b1])) rfl
theorem isIn_predI {x y : Int32} {B : Nat} (hy : Bd B y) (hB : B < 2 ^ 31) (h : isInB x 0 (y - 1) = true) : ∃ k, k < gN y ∧ k < B ∧ x = nI k ∧ gN x = k := by
  obtain ⟨k, h1, rfl⟩ := isIn_pred hy hB h
  have := hy.2
  exact ⟨k, h1, by omega, rfl, gN_nI (by omega)⟩
def kindX (W : XW) (q w : Int32) : Int32 := if wnX W q = true ∧ isInB w 0 2 = true then (if w = 0 then W.S 0 7 (gN q) else if w = 1 then W.S 0 8 (gN q) else W.S 0 9 (gN q)) else -2
theorem x_kind : CtS mX0_kind (3) (xR2 (fun (a : Unit) q w W => Bd 12 (W.S 0 0 15)) (fun (a : Unit) q w W => kindX W q w)) := by
  intro l G d hd as h z Q hs
  match as, hs with
  | [.ref b, .int q, .int w], hs =>
    obtain ⟨W, a, hx, hp, hs⟩ := hs
    replace hp : Bd 12 (W.S 0 0 15) := hp
    replace hs : ∀ r9, r9 = kindX W q w → Q (some (.int r9)) h := hs
    have hf : FrX b h h := FrX.rf
    refine Ct.of rfl (Nat.le_of_ble_eq_true rfl) rfl ?_
    refine X.w wkX0_kind (fcons (ceS c_isIn mo3 ckX0_50 (by omega) rfl) (fcons (ceV x_isWord xmR1 ckX0_162 rfl xrR1 (by omega) rfl) fnil)) [] 22 rfl ?_
    refine Exists.intro _ (Exists.intro () (And.intro hx (And.intro trivial ?_)))
    intro v2 e2
    subst e2
    refine And.intro (fun b5 => ?_) (fun b5 => ?_)
    · simp only [cP, cN, bI_0, Bool.not_eq_false, lt_nle, Decidable.not_not] at b5
      exact And.intro (hs _ (by unfold kindX; rw [if_neg (fun q => absurd (b5.symm.trans q.1) (by decide))])) rfl
    · simp only [cP, cN, bI_0, Bool.not_eq_false, lt_nle, Decidable.not_not] at b5
      obtain ⟨k, -, hk, rfl, hg⟩ := isIn_predI hp (by decide) b5
      refine And.intro (fun b14 => ?_) (fun b14 => ?_)
      · simp only [cP, cN, bI_0, Bool.not_eq_false, lt_nle, Decidable.not_not] at b14
        refine And.intro (fun b21 => ?_) (fun b21 => ?_)
        · simp only [cP, cN, bI_0, Bool.not_eq_false, lt_nle, Decidable.not_not] at b21
          refine And.intro (fun b38 => ?_) (fun b38 => ?_)
          · simp only [cP, cN, bI_0, Bool.not_eq_false, lt_nle, Decidable.not_not] at b38
            refine gF (by first | assumption | exact hx.obj | exact hx.bk | exact hx.rs | exact hx.sp | exact hx.tp | exact hx.w0.obj | exact hx.w0.arr _ rfl) ?_
            refine gF (by first | assumption | exact hx.obj | exact hx.bk | exact hx.rs | exact hx.sp | exact hx.tp | exact hx.w0.obj | exact hx.w0.arr _ rfl) ?_
            refine gA (by first | assumption | exact hx.obj | exact hx.bk | exact hx.rs | exact hx.sp | exact hx.tp | exact hx.w0.obj | exact hx.w0.arr _ rfl) (by first | exact ixN (by omega) (by decide) | exact ixz (by omega) (by decide)) ?_
            exact And.intro (hs _ (by unfold kindX; rw [if_pos ⟨b5, b14⟩, hg, if_neg b21, if_neg b38])) rfl
          · simp only [cP, cN, bI_0, Bool.not_eq_false, lt_nle, Decidable.not_not] at b38
            refine gF (by first | assumption | exact hx.obj | exact hx.bk | exact hx.rs | exact hx.sp | exact hx.tp | exact hx.w0.obj | exact hx.w0.arr _ rfl) ?_
            refine gF (by first | assumption | exact hx.obj | exact hx.bk | exact hx.rs | exact hx.sp | exact hx.tp | exact hx.w0.obj | exact hx.w0.arr _ rfl) ?_
            refine gA (by first | assumption | exact hx.obj | exact hx.bk | exact hx.rs | exact hx.sp | exact hx.tp | exact hx.w0.obj | exact hx.w0.arr _ rfl) (by first | exact ixN (by omega) (by decide) | exact ixz (by omega) (by decide)) ?_
            exact And.intro (hs _ (by unfold kindX; rw [if_pos ⟨b5, b14⟩, hg, if_neg b21, if_pos b38])) rfl
        · simp only [cP, cN, bI_0, Bool.not_eq_false, lt_nle, Decidable.not_not] at b21
          refine gF (by first | assumption | exact hx.obj | exact hx.bk | exact hx.rs | exact hx.sp | exact hx.tp | exact hx.w0.obj | exact hx.w0.arr _ rfl) ?_
          refine gF (by first | assumption | exact hx.obj | exact hx.bk | exact hx.rs | exact hx.sp | exact hx.tp | exact hx.w0.obj | exact hx.w0.arr _ rfl) ?_
          refine gA (by first | assumption | exact hx.obj | exact hx.bk | exact hx.rs | exact hx.sp | exact hx.tp | exact hx.w0.obj | exact hx.w0.arr _ rfl) (by first | exact ixN (by omega) (by decide) | exact ixz (by omega) (by decide)) ?_
          exact And.intro (hs _ (by unfold kindX; rw [if_pos ⟨b5, b14⟩, hg, if_pos b21])) rfl
      · simp only [cP, cN, bI_0, Bool.not_eq_false, lt_nle, Decidable.not_not] at b14
        exact And.intro (hs _ (by unfold kindX; rw [if_neg (fun q => absurd (b14.symm.trans q.2) (by decide))])) rfl
def bookX (W : XW) (i w : Int32) : Int32 := if isInB i 0 (W.S 0 0 17 - 1) = true ∧ isInB w 0 3 = true then W.S 0 (11 + gN i) (gN w) else -1
theorem x_book : CtS mX0_book (2) (xR2 (fun (a : Unit) i w W => Bd 100 (W.S 0 0 17)) (fun (a : Unit) i w W => bookX W i w)) := by
  intro l G d hd as h z Q hs
  match as, hs with
  | [.ref b, .int i, .int w], hs =>
    obtain ⟨W, a, hx, hp, hs⟩ := hs
    replace hp : Bd 100 (W.S 0 0 17) := hp
    replace hs : ∀ r9, r9 = bookX W i w → Q (some (.int r9)) h := hs
    have hf : FrX b h h := FrX.rf
    refine Ct.of rfl (Nat.le_of_ble_eq_true rfl) rfl ?_
    refine X.w wkX0_book (fcons (ceS c_isIn mo3 ckX0_50 (by omega) rfl) fnil) [] 24 rfl ?_
    refine gF (by first | assumption | exact hx.w0.arr _ (wC_row hk) | exact hx.obj | exact hx.bk | exact hx.rs | exact hx.sp | exact hx.tp | exact hx.w0.obj | exact hx.w0.arr _ rfl) ?_
    refine gF (by first | assumption | exact hx.w0.arr _ (wC_row hk) | exact hx.obj | exact hx.bk | exact hx.rs | exact hx.sp | exact hx.tp | exact hx.w0.obj | exact hx.w0.arr _ rfl) ?_
    refine And.intro (fun b14 => ?_) (fun b14 => ?_)
    · simp only [cP, cN, bI_0, Bool.not_eq_false, lt_nle, Decidable.not_not] at b14
      exact And.intro (hs _ (by unfold bookX; rw [if_neg (fun q => absurd (b14.symm.trans q.1) (by decide))])) rfl
    · simp only [cP, cN, bI_0, Bool.not_eq_false, lt_nle, Decidable.not_not] at b14
      obtain ⟨k, -, hk, rfl, hg⟩ := isIn_predI hp (by decide) b14
      refine And.intro (fun b23 => ?_) (fun b23 => ?_)
      · simp only [cP, cN, bI_0, Bool.not_eq_false, lt_nle, Decidable.not_not] at b23
        exact And.intro (hs _ (by unfold bookX; rw [if_neg (fun q => absurd (b23.symm.trans q.2) (by decide))])) rfl
      · simp only [cP, cN, bI_0, Bool.not_eq_false, lt_nle, Decidable.not_not] at b23
        obtain ⟨j, -, hj2, rfl⟩ := isInB_nI (a := 0) (b := 3) (by decide) b23 (by decide)
        have hg2 : gN (nI j) = j := gN_nI (by omega)
        refine gF (by first | assumption | exact hx.w0.arr _ (wC_row hk) | exact hx.obj | exact hx.bk | exact hx.rs | exact hx.sp | exact hx.tp | exact hx.w0.obj | exact hx.w0.arr _ rfl) ?_
        refine gF (by first | assumption | exact hx.w0.arr _ (wC_row hk) | exact hx.obj | exact hx.bk | exact hx.rs | exact hx.sp | exact hx.tp | exact hx.w0.obj | exact hx.w0.arr _ rfl) ?_
        refine gR (by first | assumption | exact hx.w0.arr _ (wC_row hk) | exact hx.obj | exact hx.bk | exact hx.rs | exact hx.sp | exact hx.tp | exact hx.w0.obj | exact hx.w0.arr _ rfl) (by decide) (by first | exact ixN (by omega) (by decide) | exact ixz (by omega) (by decide)) (by exact rfl) ?_
        refine gA (by first | assumption | exact hx.w0.arr _ (wC_row hk) | exact hx.obj | exact hx.bk | exact hx.rs | exact hx.sp | exact hx.tp | exact hx.w0.obj | exact hx.w0.arr _ rfl) (by first | exact ixN (by omega) (by decide) | exact ixz (by omega) (by decide)) ?_
        exact And.intro (hs _ (by unfold bookX; rw [if_pos ⟨b14, b23⟩, hg, hg2])) rfl
