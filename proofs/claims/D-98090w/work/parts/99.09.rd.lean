set_option maxRecDepth 100000
/-! THE READER: its world, its small methods -/
abbrev RC := Nat × Nat × (Nat → Int32) × (Nat → Int32) × (Nat → Int32)
def rF (x : Nat) (F : Nat → Int32) : List Value := [.int (F 0), .int (F 1), .int (F 2), .int (F 3), .int (F 4), .ref x]
/-- the reader r over c = (the class's object, the tape's length, its plain bytes, its bytes, the object's numbers); F its own numbers -/
def IsRd (G : GG) (r : Nat) (c : RC) (F : Nat → Int32) (h : AH) : Prop := G.2.2.1.size ≤ r ∧ (r ≠ c.1 ∧ r ≠ c.1 + 1) ∧ h r = some (.inr (4, rF c.1 F)) ∧ h c.1 = some (.inr (0, xF c.1 c.2.2.2.2)) ∧ h (c.1 + 1) = some (.inl (G.2.1 1, 400, .inl c.2.2.2.1)) ∧ c.2.2.2.2 1 = nI c.2.1 ∧ c.2.1 ≤ 400 ∧ ∀ k, k < c.2.1 → (c.2.2.2.1 k &&& 255) = c.2.2.1 k ∧ ∃ y, y < 256 ∧ c.2.2.1 k = nI y ∧ c.2.2.2.1 k = (c.2.2.2.1 k).toInt8.toInt32
def FrR (r : Nat) (h h' : AH) : Prop := ∀ a, a ≠ r → h' a = h a
theorem FrR.rf {r : Nat} {h : AH} : FrR r h h := fun _ _ => rfl
theorem FrR.tr {r : Nat} {h h1 h2 : AH} (p : FrR r h h1) (q : FrR r h1 h2) : FrR r h h2 := fun a ha => (q a ha).trans (p a ha)
theorem FrR.u {r : Nat} {h h1 h2 : AH} {e : va_E} (p : FrR r h h1) (q : h2 = ahU h1 r e) : FrR r h h2 := fun a ha => by rw [q, ahU_n ha]; exact p a ha
section RD
variable {G : GG} {r : Nat} {c : RC} {F : Nat → Int32} {h : AH}
theorem IsRd.N (w : IsRd G r c F h) : G.2.2.1.size ≤ r := w.1
theorem IsRd.obj (w : IsRd G r c F h) : h r = some (.inr (4, rF c.1 F)) := w.2.2.1
theorem IsRd.xo (w : IsRd G r c F h) : h c.1 = some (.inr (0, xF c.1 c.2.2.2.2)) := w.2.2.2.1
theorem IsRd.tp (w : IsRd G r c F h) : h (c.1 + 1) = some (.inl (G.2.1 1, 400, .inl c.2.2.2.1)) := w.2.2.2.2.1
theorem IsRd.ln (w : IsRd G r c F h) : c.2.2.2.2 1 = nI c.2.1 ∧ c.2.1 ≤ 400 := ⟨w.2.2.2.2.2.1, w.2.2.2.2.2.2.1⟩
theorem IsRd.by_ (w : IsRd G r c F h) : ∀ k, k < c.2.1 → (c.2.2.2.1 k &&& 255) = c.2.2.1 k ∧ ∃ y, y < 256 ∧ c.2.2.1 k = nI y ∧ c.2.2.2.1 k = (c.2.2.2.1 k).toInt8.toInt32 := w.2.2.2.2.2.2.2
theorem IsRd.recv (w : IsRd G r c F h) : ∃ fs, h r = some (.inr (4, fs)) := ⟨_, w.obj⟩
theorem IsRd.u (w : IsRd G r c F h) {k : Nat} {v : Int32} {h' : AH} (hh : h' = ahU h r (.inr (4, (rF c.1 F).set k (.int v)))) (he : (rF c.1 F).set k (.int v) = rF c.1 (upd F k v)) : IsRd G r c (upd F k v) h' := by
  rw [he] at hh
  exact ⟨w.1, w.2.1, by rw [hh, ahU_s], by rw [hh, ahU_n w.2.1.1.symm]; exact w.xo, by rw [hh, ahU_n w.2.1.2.symm]; exact w.tp, w.ln.1, w.ln.2, w.by_⟩
end RD
def rR0 {α : Type} (pre : α → RC → (Nat → Int32) → Prop) (f : α → RC → (Nat → Int32) → Int32) : GG → CSpec := fun G as h Q => match as with
  | [.ref b] => ∃ (c : RC) (F : Nat → Int32) (a : α), IsRd G b c F h ∧ pre a c F ∧ ∀ v, v = f a c F → Q (some (.int v)) h
  | _ => False
theorem rmR0 {α : Type} {pre : α → RC → (Nat → Int32) → Prop} {f : α → RC → (Nat → Int32) → Int32} {G : GG} : Mono (rR0 pre f G) := by
  intro as h Q Q' hQ hs
  unfold rR0 at hs ⊢
  split at hs
  · obtain ⟨c, F, a, h1, h2, h3⟩ := hs
    exact ⟨c, F, a, h1, h2, fun v e => hQ _ _ (h3 v e)⟩
  · exact hs.elim
theorem rrR0 {α : Type} {pre : α → RC → (Nat → Int32) → Prop} {f : α → RC → (Nat → Int32) → Int32} {G : GG} : ∀ as h Q, as.length = 0 + 1 → rR0 pre f G as h Q → ∃ b as', as = .ref b :: as' ∧ ∃ fs, h b = some (.inr (4, fs)) := by
  intro as h Q _ hs
  unfold rR0 at hs
  split at hs
  · obtain ⟨c, F, a, h1, h2, h3⟩ := hs
    exact ⟨_, _, rfl, h1.recv⟩
  · exact hs.elim
def rR1 {α : Type} (pre : α → Int32 → RC → (Nat → Int32) → Prop) (f : α → Int32 → RC → (Nat → Int32) → Int32) : GG → CSpec := fun G as h Q => match as with
  | [.ref b, .int x1] => ∃ (c : RC) (F : Nat → Int32) (a : α), IsRd G b c F h ∧ pre a x1 c F ∧ ∀ v, v = f a x1 c F → Q (some (.int v)) h
  | _ => False
theorem rmR1 {α : Type} {pre : α → Int32 → RC → (Nat → Int32) → Prop} {f : α → Int32 → RC → (Nat → Int32) → Int32} {G : GG} : Mono (rR1 pre f G) := by
  intro as h Q Q' hQ hs
  unfold rR1 at hs ⊢
  split at hs
  · obtain ⟨c, F, a, h1, h2, h3⟩ := hs
    exact ⟨c, F, a, h1, h2, fun v e => hQ _ _ (h3 v e)⟩
  · exact hs.elim
theorem rrR1 {α : Type} {pre : α → Int32 → RC → (Nat → Int32) → Prop} {f : α → Int32 → RC → (Nat → Int32) → Int32} {G : GG} : ∀ as h Q, as.length = 1 + 1 → rR1 pre f G as h Q → ∃ b as', as = .ref b :: as' ∧ ∃ fs, h b = some (.inr (4, fs)) := by
  intro as h Q _ hs
  unfold rR1 at hs
  split at hs
  · obtain ⟨c, F, a, h1, h2, h3⟩ := hs
    exact ⟨_, _, rfl, h1.recv⟩
  · exact hs.elim
def rV0 {α : Type} (pre : α → RC → (Nat → Int32) → Prop) (post : α → RC → (Nat → Int32) → (Nat → Int32) → Prop) : GG → CSpec := fun G as h Q => match as with
  | [.ref b] => ∃ (c : RC) (F : Nat → Int32) (a : α), IsRd G b c F h ∧ pre a c F ∧ ∀ F' h', post a c F F' → IsRd G b c F' h' → FrR b h h' → Q none h'
  | _ => False
theorem rmV0 {α : Type} {pre : α → RC → (Nat → Int32) → Prop} {post : α → RC → (Nat → Int32) → (Nat → Int32) → Prop} {G : GG} : Mono (rV0 pre post G) := by
  intro as h Q Q' hQ hs
  unfold rV0 at hs ⊢
  split at hs
  · obtain ⟨c, F, a, h1, h2, h3⟩ := hs
    exact ⟨c, F, a, h1, h2, fun F' h' p1 p2 p3 => hQ _ _ (h3 F' h' p1 p2 p3)⟩
  · exact hs.elim
theorem rrV0 {α : Type} {pre : α → RC → (Nat → Int32) → Prop} {post : α → RC → (Nat → Int32) → (Nat → Int32) → Prop} {G : GG} : ∀ as h Q, as.length = 0 + 1 → rV0 pre post G as h Q → ∃ b as', as = .ref b :: as' ∧ ∃ fs, h b = some (.inr (4, fs)) := by
  intro as h Q _ hs
  unfold rV0 at hs
  split at hs
  · obtain ⟨c, F, a, h1, h2, h3⟩ := hs
    exact ⟨_, _, rfl, h1.recv⟩
  · exact hs.elim
theorem r_see : CtS mX4_see (0) (rR0 (fun (a : Nat) c F => F 0 = nI a ∧ a ≤ c.2.1) (fun (a : Nat) c F => chr c.2.2.1 c.2.1 a)) := by
  intro l G d hd as h z Q hs
  match as, hs with
  | [.ref r], hs =>
    obtain ⟨c, F, a, hr, hp, hs⟩ := hs
    replace hp : F 0 = nI a ∧ a ≤ c.2.1 := hp
    replace hs : ∀ r9, r9 = chr c.2.2.1 c.2.1 a → Q (some (.int r9)) h := hs
    have hf : FrR r h h := FrR.rf
    obtain ⟨x, n, t, T, Xf⟩ := c
    (try dsimp only at hp hs)
    refine Ct.of rfl (Nat.le_of_ble_eq_true rfl) rfl ?_
    obtain ⟨h0, ha⟩ := hp
    have hl := hr.ln
    dsimp only at hl
    have hb : ∀ k, k < n → (T k &&& 255) = t k := fun k hk => (hr.by_ k hk).1
    refine X.w wkX4_see fnil [] 17 rfl ?_
    refine gF (by first | assumption | exact hr.obj | exact hr.xo | exact hr.tp) ?_
    refine gF (by first | assumption | exact hr.obj | exact hr.xo | exact hr.tp) ?_
    refine gF (by first | assumption | exact hr.obj | exact hr.xo | exact hr.tp) ?_
    refine And.intro (fun b11 => ?_) (fun b11 => ?_)
    · simp only [cP, cN, bI_0, Bool.not_eq_false, lt_nle, Decidable.not_not] at b11
      have b : nI n ≤ nI a := by rw [← hl.1, ← h0]; exact b11
      rw [nI_leI (by omega) (by omega)] at b
      exact And.intro (hs _ (by unfold chr; rw [if_neg (by omega)])) rfl
    · simp only [cP, cN, bI_0, Bool.not_eq_false, lt_nle, Decidable.not_not] at b11
      have hlt : a < n := by
        have b : ¬ nI n ≤ nI a := by rw [← hl.1, ← h0]; exact b11
        rw [nI_leI (by omega) (by omega)] at b
        omega
      have hix : IX (F 0) 400 a := by rw [h0]; exact ixN (by omega) (by decide)
      refine gF (by first | assumption | exact hr.obj | exact hr.xo | exact hr.tp) ?_
      refine gF (by first | assumption | exact hr.obj | exact hr.xo | exact hr.tp) ?_
      refine gF (by first | assumption | exact hr.obj | exact hr.xo | exact hr.tp) ?_
      refine gA (by first | assumption | exact hr.obj | exact hr.xo | exact hr.tp) hix ?_
      exact And.intro (hs _ (by rw [chr_at hlt, ← hb a hlt])) rfl
theorem r_isLetter : CtS mX4_isLetter (2) (rR0 (fun (a : Nat) c F => F 0 = nI a ∧ a ≤ c.2.1) (fun (a : Nat) c F => bI (letB (chr c.2.2.1 c.2.1 a)))) := by
  intro l G d hd as h z Q hs
  match as, hs with
  | [.ref r], hs =>
    obtain ⟨c, F, a, hr, hp, hs⟩ := hs
    replace hp : F 0 = nI a ∧ a ≤ c.2.1 := hp
    replace hs : ∀ r9, r9 = bI (letB (chr c.2.2.1 c.2.1 a)) → Q (some (.int r9)) h := hs
    have hf : FrR r h h := FrR.rf
    obtain ⟨x, n, t, T, Xf⟩ := c
    (try dsimp only at hp hs)
    refine Ct.of rfl (Nat.le_of_ble_eq_true rfl) rfl ?_
    refine X.w wkX4_isLetter (fcons (ceS c_isIn mo3 ckX4_30 (by omega) rfl) (fcons (ceV r_see rmR0 ckX4_26 rfl rrR0 (by omega) rfl) fnil)) [] 16 rfl ?_
    refine Exists.intro _ (Exists.intro _ (Exists.intro a (And.intro hr (And.intro hp ?_))))
    intro v1 e1
    (try dsimp only at e1)
    subst e1
    refine And.intro (fun b11 => ?_) (fun b11 => ?_)
    · simp only [cP, cN, bI_0, Bool.not_eq_false, lt_nle, Decidable.not_not] at b11
      refine And.intro (by first | exact Or.inl rfl | exact Or.inr rfl | exact bI_01 _) ?_
      exact And.intro (hs _ (by rw [show letB (chr t n a) = true from by simp only [letB, lt_nle, b11, decide_true, decide_false, Bool.and_true, Bool.true_and, Bool.and_false, Bool.false_and, Bool.or_true, Bool.true_or, Bool.or_false, Bool.false_or, not_true_eq_false, not_false_eq_true, Bool.not_true, Bool.not_false, decide_not, if_true, if_false, and_true, true_and, and_false, false_and, or_true, true_or, or_false, false_or, Bool.false_eq_true]]; rfl)) rfl
    · simp only [cP, cN, bI_0, Bool.not_eq_false, lt_nle, Decidable.not_not] at b11
      refine Exists.intro _ (Exists.intro _ (Exists.intro a (And.intro hr (And.intro hp ?_))))
      intro v15 e15
      (try dsimp only at e15)
      subst e15
      refine And.intro (fun b25 => ?_) (fun b25 => ?_)
      · simp only [cP, cN, bI_0, Bool.not_eq_false, lt_nle, Decidable.not_not] at b25
        refine And.intro (by first | exact Or.inl rfl | exact Or.inr rfl | exact bI_01 _) ?_
        exact And.intro (hs _ (by rw [show letB (chr t n a) = false from by simp only [letB, lt_nle, b11, b25, decide_true, decide_false, Bool.and_true, Bool.true_and, Bool.and_false, Bool.false_and, Bool.or_true, Bool.true_or, Bool.or_false, Bool.false_or, not_true_eq_false, not_false_eq_true, Bool.not_true, Bool.not_false, decide_not, if_true, if_false, and_true, true_and, and_false, false_and, or_true, true_or, or_false, false_or, Bool.false_eq_true]]; rfl)) rfl
      · simp only [cP, cN, bI_0, Bool.not_eq_false, lt_nle, Decidable.not_not] at b25
        refine And.intro (by first | exact Or.inl rfl | exact Or.inr rfl | exact bI_01 _) ?_
        exact And.intro (hs _ (by rw [show letB (chr t n a) = true from by simp only [letB, lt_nle, b11, b25, decide_true, decide_false, Bool.and_true, Bool.true_and, Bool.and_false, Bool.false_and, Bool.or_true, Bool.true_or, Bool.or_false, Bool.false_or, not_true_eq_false, not_false_eq_true, Bool.not_true, Bool.not_false, decide_not, if_true, if_false, and_true, true_and, and_false, false_and, or_true, true_or, or_false, false_or, Bool.false_eq_true]]; rfl)) rfl
theorem r_isDigit : CtS mX4_isDigit (2) (rR0 (fun (a : Nat) c F => F 0 = nI a ∧ a ≤ c.2.1) (fun (a : Nat) c F => bI (digB (chr c.2.2.1 c.2.1 a)))) := by
  intro l G d hd as h z Q hs
  match as, hs with
  | [.ref r], hs =>
    obtain ⟨c, F, a, hr, hp, hs⟩ := hs
    replace hp : F 0 = nI a ∧ a ≤ c.2.1 := hp
    replace hs : ∀ r9, r9 = bI (digB (chr c.2.2.1 c.2.1 a)) → Q (some (.int r9)) h := hs
    have hf : FrR r h h := FrR.rf
    obtain ⟨x, n, t, T, Xf⟩ := c
    (try dsimp only at hp hs)
    refine Ct.of rfl (Nat.le_of_ble_eq_true rfl) rfl ?_
    refine X.w wkX4_isDigit (fcons (ceS c_isIn mo3 ckX4_30 (by omega) rfl) (fcons (ceV r_see rmR0 ckX4_26 rfl rrR0 (by omega) rfl) fnil)) [] 7 rfl ?_
    refine Exists.intro _ (Exists.intro _ (Exists.intro a (And.intro hr (And.intro hp ?_))))
    intro v1 e1
    (try dsimp only at e1)
    subst e1
    refine And.intro (by first | exact Or.inl rfl | exact Or.inr rfl | exact bI_01 _) ?_
    exact And.intro (hs _ rfl) rfl
theorem r_isMark : CtS mX4_isMark (0) (rR1 (fun (a : Unit) x1 c F => True) (fun (a : Unit) x1 c F => bI (markB x1))) := by
  intro l G d hd as h z Q hs
  match as, hs with
  | [.ref r, .int x1], hs =>
    obtain ⟨c, F, a, hr, hp, hs⟩ := hs
    replace hp : True := hp
    replace hs : ∀ r9, r9 = bI (markB x1) → Q (some (.int r9)) h := hs
    have hf : FrR r h h := FrR.rf
    obtain ⟨x, n, t, T, Xf⟩ := c
    (try dsimp only at hp hs)
    refine Ct.of rfl (Nat.le_of_ble_eq_true rfl) rfl ?_
    refine X.w wkX4_isMark fnil [] 34 rfl ?_
    refine And.intro (fun b3 => ?_) (fun b3 => ?_)
    · simp only [cP, cN, bI_0, Bool.not_eq_false, lt_nle, Decidable.not_not] at b3
      refine And.intro (by first | exact Or.inl rfl | exact Or.inr rfl | exact bI_01 _) ?_
      exact And.intro (hs _ (by rw [show markB x1 = true from by simp only [markB, lt_nle, b3, decide_true, decide_false, Bool.and_true, Bool.true_and, Bool.and_false, Bool.false_and, Bool.or_true, Bool.true_or, Bool.or_false, Bool.false_or, not_true_eq_false, not_false_eq_true, Bool.not_true, Bool.not_false, decide_not, if_true, if_false, and_true, true_and, and_false, false_and, or_true, true_or, or_false, false_or, Bool.false_eq_true]]; rfl)) rfl
    · simp only [cP, cN, bI_0, Bool.not_eq_false, lt_nle, Decidable.not_not] at b3
      refine And.intro (fun b9 => ?_) (fun b9 => ?_)
      · simp only [cP, cN, bI_0, Bool.not_eq_false, lt_nle, Decidable.not_not] at b9
        refine And.intro (by first | exact Or.inl rfl | exact Or.inr rfl | exact bI_01 _) ?_
        exact And.intro (hs _ (by rw [show markB x1 = true from by simp only [markB, lt_nle, b3, b9, decide_true, decide_false, Bool.and_true, Bool.true_and, Bool.and_false, Bool.false_and, Bool.or_true, Bool.true_or, Bool.or_false, Bool.false_or, not_true_eq_false, not_false_eq_true, Bool.not_true, Bool.not_false, decide_not, if_true, if_false, and_true, true_and, and_false, false_and, or_true, true_or, or_false, false_or, Bool.false_eq_true]]; rfl)) rfl
      · simp only [cP, cN, bI_0, Bool.not_eq_false, lt_nle, Decidable.not_not] at b9
        refine And.intro (fun b15 => ?_) (fun b15 => ?_)
        · simp only [cP, cN, bI_0, Bool.not_eq_false, lt_nle, Decidable.not_not] at b15
          refine And.intro (by first | exact Or.inl rfl | exact Or.inr rfl | exact bI_01 _) ?_
          exact And.intro (hs _ (by rw [show markB x1 = true from by simp only [markB, lt_nle, b3, b9, b15, decide_true, decide_false, Bool.and_true, Bool.true_and, Bool.and_false, Bool.false_and, Bool.or_true, Bool.true_or, Bool.or_false, Bool.false_or, not_true_eq_false, not_false_eq_true, Bool.not_true, Bool.not_false, decide_not, if_true, if_false, and_true, true_and, and_false, false_and, or_true, true_or, or_false, false_or, Bool.false_eq_true]]; rfl)) rfl
        · simp only [cP, cN, bI_0, Bool.not_eq_false, lt_nle, Decidable.not_not] at b15
          refine And.intro (fun b21 => ?_) (fun b21 => ?_)
          · simp only [cP, cN, bI_0, Bool.not_eq_false, lt_nle, Decidable.not_not] at b21
            refine And.intro (by first | exact Or.inl rfl | exact Or.inr rfl | exact bI_01 _) ?_
            exact And.intro (hs _ (by rw [show markB x1 = true from by simp only [markB, lt_nle, b3, b9, b15, b21, decide_true, decide_false, Bool.and_true, Bool.true_and, Bool.and_false, Bool.false_and, Bool.or_true, Bool.true_or, Bool.or_false, Bool.false_or, not_true_eq_false, not_false_eq_true, Bool.not_true, Bool.not_false, decide_not, if_true, if_false, and_true, true_and, and_false, false_and, or_true, true_or, or_false, false_or, Bool.false_eq_true]]; rfl)) rfl
          · simp only [cP, cN, bI_0, Bool.not_eq_false, lt_nle, Decidable.not_not] at b21
            refine And.intro (fun b27 => ?_) (fun b27 => ?_)
            · simp only [cP, cN, bI_0, Bool.not_eq_false, lt_nle, Decidable.not_not] at b27
              refine And.intro (by first | exact Or.inl rfl | exact Or.inr rfl | exact bI_01 _) ?_
              exact And.intro (hs _ (by rw [show markB x1 = true from by simp only [markB, lt_nle, b3, b9, b15, b21, b27, decide_true, decide_false, Bool.and_true, Bool.true_and, Bool.and_false, Bool.false_and, Bool.or_true, Bool.true_or, Bool.or_false, Bool.false_or, not_true_eq_false, not_false_eq_true, Bool.not_true, Bool.not_false, decide_not, if_true, if_false, and_true, true_and, and_false, false_and, or_true, true_or, or_false, false_or, Bool.false_eq_true]]; rfl)) rfl
            · simp only [cP, cN, bI_0, Bool.not_eq_false, lt_nle, Decidable.not_not] at b27
              refine And.intro (fun b33 => ?_) (fun b33 => ?_)
              · simp only [cP, cN, bI_0, Bool.not_eq_false, lt_nle, Decidable.not_not] at b33
                refine And.intro (by first | exact Or.inl rfl | exact Or.inr rfl | exact bI_01 _) ?_
                exact And.intro (hs _ (by rw [show markB x1 = true from by simp only [markB, lt_nle, b3, b9, b15, b21, b27, b33, decide_true, decide_false, Bool.and_true, Bool.true_and, Bool.and_false, Bool.false_and, Bool.or_true, Bool.true_or, Bool.or_false, Bool.false_or, not_true_eq_false, not_false_eq_true, Bool.not_true, Bool.not_false, decide_not, if_true, if_false, and_true, true_and, and_false, false_and, or_true, true_or, or_false, false_or, Bool.false_eq_true]]; rfl)) rfl
              · simp only [cP, cN, bI_0, Bool.not_eq_false, lt_nle, Decidable.not_not] at b33
                refine And.intro (fun b39 => ?_) (fun b39 => ?_)
                · simp only [cP, cN, bI_0, Bool.not_eq_false, lt_nle, Decidable.not_not] at b39
                  refine And.intro (by first | exact Or.inl rfl | exact Or.inr rfl | exact bI_01 _) ?_
                  exact And.intro (hs _ (by rw [show markB x1 = true from by simp only [markB, lt_nle, b3, b9, b15, b21, b27, b33, b39, decide_true, decide_false, Bool.and_true, Bool.true_and, Bool.and_false, Bool.false_and, Bool.or_true, Bool.true_or, Bool.or_false, Bool.false_or, not_true_eq_false, not_false_eq_true, Bool.not_true, Bool.not_false, decide_not, if_true, if_false, and_true, true_and, and_false, false_and, or_true, true_or, or_false, false_or, Bool.false_eq_true]]; rfl)) rfl
                · simp only [cP, cN, bI_0, Bool.not_eq_false, lt_nle, Decidable.not_not] at b39
                  refine And.intro (fun b45 => ?_) (fun b45 => ?_)
                  · simp only [cP, cN, bI_0, Bool.not_eq_false, lt_nle, Decidable.not_not] at b45
                    refine And.intro (by first | exact Or.inl rfl | exact Or.inr rfl | exact bI_01 _) ?_
                    exact And.intro (hs _ (by rw [show markB x1 = true from by simp only [markB, lt_nle, b3, b9, b15, b21, b27, b33, b39, b45, decide_true, decide_false, Bool.and_true, Bool.true_and, Bool.and_false, Bool.false_and, Bool.or_true, Bool.true_or, Bool.or_false, Bool.false_or, not_true_eq_false, not_false_eq_true, Bool.not_true, Bool.not_false, decide_not, if_true, if_false, and_true, true_and, and_false, false_and, or_true, true_or, or_false, false_or, Bool.false_eq_true]]; rfl)) rfl
                  · simp only [cP, cN, bI_0, Bool.not_eq_false, lt_nle, Decidable.not_not] at b45
                    refine And.intro (fun b51 => ?_) (fun b51 => ?_)
                    · simp only [cP, cN, bI_0, Bool.not_eq_false, lt_nle, Decidable.not_not] at b51
                      refine And.intro (by first | exact Or.inl rfl | exact Or.inr rfl | exact bI_01 _) ?_
                      exact And.intro (hs _ (by rw [show markB x1 = true from by simp only [markB, lt_nle, b3, b9, b15, b21, b27, b33, b39, b45, b51, decide_true, decide_false, Bool.and_true, Bool.true_and, Bool.and_false, Bool.false_and, Bool.or_true, Bool.true_or, Bool.or_false, Bool.false_or, not_true_eq_false, not_false_eq_true, Bool.not_true, Bool.not_false, decide_not, if_true, if_false, and_true, true_and, and_false, false_and, or_true, true_or, or_false, false_or, Bool.false_eq_true]]; rfl)) rfl
                    · simp only [cP, cN, bI_0, Bool.not_eq_false, lt_nle, Decidable.not_not] at b51
                      refine And.intro (fun b57 => ?_) (fun b57 => ?_)
                      · simp only [cP, cN, bI_0, Bool.not_eq_false, lt_nle, Decidable.not_not] at b57
                        refine And.intro (by first | exact Or.inl rfl | exact Or.inr rfl | exact bI_01 _) ?_
                        exact And.intro (hs _ (by rw [show markB x1 = false from by simp only [markB, lt_nle, b3, b9, b15, b21, b27, b33, b39, b45, b51, b57, decide_true, decide_false, Bool.and_true, Bool.true_and, Bool.and_false, Bool.false_and, Bool.or_true, Bool.true_or, Bool.or_false, Bool.false_or, not_true_eq_false, not_false_eq_true, Bool.not_true, Bool.not_false, decide_not, if_true, if_false, and_true, true_and, and_false, false_and, or_true, true_or, or_false, false_or, Bool.false_eq_true]]; rfl)) rfl
                      · simp only [cP, cN, bI_0, Bool.not_eq_false, lt_nle, Decidable.not_not] at b57
                        refine And.intro (by first | exact Or.inl rfl | exact Or.inr rfl | exact bI_01 _) ?_
                        exact And.intro (hs _ (by rw [show markB x1 = true from by simp only [markB, lt_nle, b3, b9, b15, b21, b27, b33, b39, b45, b51, b57, decide_true, decide_false, Bool.and_true, Bool.true_and, Bool.and_false, Bool.false_and, Bool.or_true, Bool.true_or, Bool.or_false, Bool.false_or, not_true_eq_false, not_false_eq_true, Bool.not_true, Bool.not_false, decide_not, if_true, if_false, and_true, true_and, and_false, false_and, or_true, true_or, or_false, false_or, Bool.false_eq_true]]; rfl)) rfl
