set_option maxRecDepth 100000
/-! people; what acts move -/
/-- the first n of g, behind them f -/
def cpy (n : Nat) (f g : Nat → Int32) : Nat → Int32 := fun j => if j < n then g j else f j
theorem cpy_0 (f g : Nat → Int32) : cpy 0 f g = f := by funext j; simp [cpy]
theorem cpy_s (n : Nat) (f g : Nat → Int32) : upd (cpy n f g) n (g n) = cpy (n + 1) f g := by
  funext j
  by_cases e : j = n
  · subst e; rw [pk_us]; simp [cpy]
  · rw [pk_un e]; unfold cpy; simp only [show (j < n + 1) ↔ (j < n) from by omega]
theorem cpy_lt {n j : Nat} {f g : Nat → Int32} (h : j < n) : cpy n f g j = g j := if_pos h
theorem cpy_ge {n j : Nat} {f g : Nat → Int32} (h : n ≤ j) : cpy n f g j = f j := if_neg (by omega)
def PersAt (G : GG) (a : Nat) (c s z : Int32) (f : Nat → Int32) (h : AH) : Prop := G.2.2.1.size ≤ a ∧ h a = some (.inr (2, [.ref (a + 1), .int c, .int s, .int z])) ∧ h (a + 1) = some (.inl (G.2.1 0, 12, .inl f))
def Fr2 (a : Nat) (h h' : AH) : Prop := ∀ q, q ≠ a → q ≠ a + 1 → h' q = h q
section PS
variable {G : GG} {a : Nat} {c s z : Int32} {f : Nat → Int32} {h h2 : AH}
theorem PersAt.off (w : PersAt G a c s z f h) {q : Nat} {x : va_E} (e : h2 = ahU h q x) (h1 : a ≠ q) (h3 : a + 1 ≠ q) : PersAt G a c s z f h2 := by
  rw [e]
  exact ⟨w.1, by rw [ahU_n h1]; exact w.2.1, by rw [ahU_n h3]; exact w.2.2⟩
theorem PersAt.u1 (w : PersAt G a c s z f h) {x : Int32} (e : h2 = ahU h a (.inr (2, [.ref (a + 1), .int x, .int s, .int z]))) : PersAt G a x s z f h2 := by
  rw [e]
  exact ⟨w.1, ahU_s, by rw [ahU_n (by omega)]; exact w.2.2⟩
theorem PersAt.u2 (w : PersAt G a c s z f h) {x : Int32} (e : h2 = ahU h a (.inr (2, [.ref (a + 1), .int c, .int x, .int z]))) : PersAt G a c x z f h2 := by
  rw [e]
  exact ⟨w.1, ahU_s, by rw [ahU_n (by omega)]; exact w.2.2⟩
theorem PersAt.u3 (w : PersAt G a c s z f h) {x : Int32} (e : h2 = ahU h a (.inr (2, [.ref (a + 1), .int c, .int s, .int x]))) : PersAt G a c s x f h2 := by
  rw [e]
  exact ⟨w.1, ahU_s, by rw [ahU_n (by omega)]; exact w.2.2⟩
theorem PersAt.ub (w : PersAt G a c s z f h) {g : Nat → Int32} (e : h2 = ahU h (a + 1) (.inl (G.2.1 0, 12, .inl g))) : PersAt G a c s z g h2 := by
  rw [e]
  exact ⟨w.1, by rw [ahU_n (by omega)]; exact w.2.1, ahU_s⟩
theorem Fr2.rf : Fr2 a h h := fun _ _ _ => rfl
theorem Fr2.u0 {h1 : AH} (w : Fr2 a h h1) {x : va_E} (e : h2 = ahU h1 a x) : Fr2 a h h2 := by
  rw [e]
  exact fun q h3 h4 => by rw [ahU_n h3]; exact w q h3 h4
theorem Fr2.u1 {h1 : AH} (w : Fr2 a h h1) {x : va_E} (e : h2 = ahU h1 (a + 1) x) : Fr2 a h h2 := by
  rw [e]
  exact fun q h3 h4 => by rw [ahU_n h4]; exact w q h3 h4
end PS
def spPB : GG → CSpec := fun G as h Q => match as with
  | [.ref a, .int x] => ∃ (c s z : Int32) (f : Nat → Int32), PersAt G a c s z f h ∧ ∀ h', PersAt G a x 0 0 (cpy 12 f (fun _ => 0)) h' → Fr2 a h h' → Q none h'
  | _ => False
theorem moPB {G : GG} : Mono (spPB G) := by
  intro as h Q Q' hQ hs
  unfold spPB at hs ⊢
  split at hs
  · obtain ⟨c, s, z, f, h1, h2⟩ := hs
    exact ⟨c, s, z, f, h1, fun h' a b => hQ _ _ (h2 h' a b)⟩
  · exact hs.elim
theorem rcPB {G : GG} : ∀ as h Q, as.length = 1 + 1 → spPB G as h Q → ∃ b as', as = .ref b :: as' ∧ ∃ fs, h b = some (.inr (2, fs)) := by
  intro as h Q _ hs
  unfold spPB at hs
  split at hs
  · obtain ⟨c, s, z, f, h1, h2⟩ := hs
    exact ⟨_, _, rfl, _, h1.2.1⟩
  · exact hs.elim
theorem c_pBegins : CtS mX2_begins 1 spPB := by
  intro l G d hd as h z Q hs
  match as, hs with
  | [.ref a, .int x], hs =>
    obtain ⟨c, s, u, f, hp, hs⟩ := hs
    refine Ct.of rfl (Nat.le_of_ble_eq_true rfl) rfl ?_
    have loop : ∀ (n k : Nat) (i : Int32) (h1 : AH), k + n = 12 → i = nI k → PersAt G a x 0 0 (cpy k f (fun _ => 0)) h1 → Fr2 a h h1 → X l G mX2_begins (rmK d 0 0) (TGm G (fun v h' z' => Q v h' ∧ z' = z) 0 0) 0 0 17 [(0, .ref a), (1, .int x), (2, .int i)] [] h1 z := by
      intro n
      induction n using Nat.strongRecOn with
      | _ n ih =>
      intro k i h1 hc hi hp hf
      subst hi
      refine X.w wkX2_begins fnil [17] 12 rfl ?_
      refine And.intro (fun b20 => ?_) (fun b20 => ?_)
      · simp only [cP, cN, bI_0, Bool.not_eq_false, lt_nle, Decidable.not_not] at b20
        have hc2 : 12 ≤ k := (le64 (by omega) (by decide)).mp b20
        have e : k = 12 := by omega
        subst e
        exact And.intro (hs _ hp hf) rfl
      · simp only [cP, cN, bI_0, Bool.not_eq_false, lt_nle, Decidable.not_not] at b20
        refine gF (by first | assumption | exact hp.2.1 | exact hp.2.2) ?_
        refine sA (by first | assumption | exact hp.2.1 | exact hp.2.2) (ixN (nle64 (k := 12) b20 (by omega) (by decide)) (by decide)) (Nat.le_trans hp.1 (Nat.le_succ _)) ?_
        intro h29 e29
        have hc2 := nle64 (k := 12) b20 (by omega) (by decide)
        refine ih (n - 1) (by omega) (k + 1) _ _ (by omega) (nI_1 k) ?_ (hf.u1 e29)
        rw [← cpy_s]
        exact hp.ub e29
    refine X.w wkX2_begins fnil [17] 13 rfl ?_
    refine pF0 (okV_W rfl) (by first | assumption | exact hp.2.1 | exact hp.2.2) (Nat.le_of_ble_eq_true rfl) hp.1 ?_
    intro h2 e2
    have hp := hp.u1 e2; have hf := (Fr2.rf (a := a) (h := h)).u0 e2
    refine pF0 (okV_W rfl) (by first | assumption | exact hp.2.1 | exact hp.2.2) (Nat.le_of_ble_eq_true rfl) hp.1 ?_
    intro h7 e7
    have hp := hp.u2 e7; have hf := hf.u0 e7
    refine pF0 (okV_W rfl) (by first | assumption | exact hp.2.1 | exact hp.2.2) (Nat.le_of_ble_eq_true rfl) hp.1 ?_
    intro h12 e12
    have hp := hp.u3 e12; have hf := hf.u0 e12
    exact loop 12 0 _ _ rfl rfl (by rw [cpy_0]; exact hp) hf
def Apart (n a a2 : Nat) : Prop := a + n ≤ a2 ∨ a2 + n ≤ a
def spPT : GG → CSpec := fun G as h Q => match as with
  | [.ref a, .ref a2] => ∃ (c s z : Int32) (f : Nat → Int32) (c2 s2 z2 : Int32) (f2 : Nat → Int32), PersAt G a c s z f h ∧ PersAt G a2 c2 s2 z2 f2 h ∧ Apart 2 a a2 ∧ ∀ h', PersAt G a c2 s2 z2 (cpy 12 f f2) h' → Fr2 a h h' → Q none h'
  | _ => False
theorem moPT {G : GG} : Mono (spPT G) := by
  intro as h Q Q' hQ hs
  unfold spPT at hs ⊢
  split at hs
  · obtain ⟨c, s, z, f, c2, s2, z2, f2, h1, h2, h3, h4⟩ := hs
    exact ⟨c, s, z, f, c2, s2, z2, f2, h1, h2, h3, fun h' a b => hQ _ _ (h4 h' a b)⟩
  · exact hs.elim
theorem rcPT {G : GG} : ∀ as h Q, as.length = 1 + 1 → spPT G as h Q → ∃ b as', as = .ref b :: as' ∧ ∃ fs, h b = some (.inr (2, fs)) := by
  intro as h Q _ hs
  unfold spPT at hs
  split at hs
  · obtain ⟨c, s, z, f, c2, s2, z2, f2, h1, h2⟩ := hs
    exact ⟨_, _, rfl, _, h1.2.1⟩
  · exact hs.elim
theorem c_pTakes : CtS mX2_takes 1 spPT := by
  intro l G d hd as h z Q hs
  match as, hs with
  | [.ref a, .ref a2], hs =>
    obtain ⟨c, s, u, f, c2, s2, u2, f2, hp, hr, hd2, hs⟩ := hs
    unfold Apart at hd2
    refine Ct.of rfl (Nat.le_of_ble_eq_true rfl) rfl ?_
    have loop : ∀ (n k : Nat) (i : Int32) (h1 : AH), k + n = 12 → i = nI k → PersAt G a c2 s2 u2 (cpy k f f2) h1 → PersAt G a2 c2 s2 u2 f2 h1 → Fr2 a h h1 → X l G mX2_takes (rmK d 0 0) (TGm G (fun v h' z' => Q v h' ∧ z' = z) 0 0) 0 0 26 [(0, .ref a), (1, .ref a2), (2, .int i)] [] h1 z := by
      intro n
      induction n using Nat.strongRecOn with
      | _ n ih =>
      intro k i h1 hc hi hp hr hf
      subst hi
      refine X.w wkX2_takes fnil [26] 15 rfl ?_
      refine And.intro (fun b29 => ?_) (fun b29 => ?_)
      · simp only [cP, cN, bI_0, Bool.not_eq_false, lt_nle, Decidable.not_not] at b29
        have hc2 : 12 ≤ k := (le64 (by omega) (by decide)).mp b29
        have e : k = 12 := by omega
        subst e
        exact And.intro (hs _ hp hf) rfl
      · simp only [cP, cN, bI_0, Bool.not_eq_false, lt_nle, Decidable.not_not] at b29
        refine gF (by first | assumption | exact hp.2.1 | exact hp.2.2 | exact hr.2.1 | exact hr.2.2) ?_
        refine gF (by first | assumption | exact hp.2.1 | exact hp.2.2 | exact hr.2.1 | exact hr.2.2) ?_
        refine gA (by first | assumption | exact hp.2.1 | exact hp.2.2 | exact hr.2.1 | exact hr.2.2) (ixN (nle64 (k := 12) b29 (by omega) (by decide)) (by decide)) ?_
        refine sA (by first | assumption | exact hp.2.1 | exact hp.2.2 | exact hr.2.1 | exact hr.2.2) (ixN (nle64 (k := 12) b29 (by omega) (by decide)) (by decide)) (Nat.le_trans hp.1 (Nat.le_succ _)) ?_
        intro h43 e43
        have hc2 := nle64 (k := 12) b29 (by omega) (by decide)
        refine ih (n - 1) (by omega) (k + 1) _ _ (by omega) (nI_1 k) ?_ (hr.off e43 (by omega) (by omega)) (hf.u1 e43)
        rw [← cpy_s]
        exact hp.ub e43
    refine X.w wkX2_takes fnil [26] 16 rfl ?_
    refine gF (by first | assumption | exact hp.2.1 | exact hp.2.2 | exact hr.2.1 | exact hr.2.2) ?_
    refine pF0 (okV_W rfl) (by first | assumption | exact hp.2.1 | exact hp.2.2 | exact hr.2.1 | exact hr.2.2) (Nat.le_of_ble_eq_true rfl) hp.1 ?_
    intro h5 e5
    have hp := hp.u1 e5; have hr := hr.off e5 (by omega) (by omega); have hf := (Fr2.rf (a := a) (h := h)).u0 e5
    refine gF (by first | assumption | exact hp.2.1 | exact hp.2.2 | exact hr.2.1 | exact hr.2.2) ?_
    refine pF0 (okV_W rfl) (by first | assumption | exact hp.2.1 | exact hp.2.2 | exact hr.2.1 | exact hr.2.2) (Nat.le_of_ble_eq_true rfl) hp.1 ?_
    intro h13 e13
    have hp := hp.u2 e13; have hr := hr.off e13 (by omega) (by omega); have hf := hf.u0 e13
    refine gF (by first | assumption | exact hp.2.1 | exact hp.2.2 | exact hr.2.1 | exact hr.2.2) ?_
    refine pF0 (okV_W rfl) (by first | assumption | exact hp.2.1 | exact hp.2.2 | exact hr.2.1 | exact hr.2.2) (Nat.le_of_ble_eq_true rfl) hp.1 ?_
    intro h21 e21
    have hp := hp.u3 e21; have hr := hr.off e21 (by omega) (by omega); have hf := hf.u0 e21
    exact loop 12 0 _ _ rfl rfl (by rw [cpy_0]; exact hp) hr hf
