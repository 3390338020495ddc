set_option maxRecDepth 100000
/-! THE MODEL: one object and its 22 arrays, 23 cells from b on. S o k: the int at place k of the cell b + o (o = 0: field k). -/
abbrev SS : Type := Nat → Nat → Int32
def mF (b : Nat) (S : SS) : List Value := [.int (S 0 0), .ref (b + 1), .ref (b + 2), .int (S 0 3), .int (S 0 4), .int (S 0 5), .int (S 0 6), .ref (b + 3), .int (S 0 8), .ref (b + 4), .ref (b + 5), .ref (b + 6), .int (S 0 12), .int (S 0 13), .int (S 0 14), .int (S 0 15), .int (S 0 16), .int (S 0 17), .ref (b + 7), .ref (b + 8), .int (S 0 20), .int (S 0 21), .int (S 0 22), .int (S 0 23), .int (S 0 24), .ref (b + 9), .int (S 0 26), .ref (b + 10), .ref (b + 11), .ref (b + 12), .ref (b + 13), .ref (b + 14), .int (S 0 32), .int (S 0 33), .ref (b + 15), .int (S 0 35), .int (S 0 36), .int (S 0 37), .int (S 0 38), .int (S 0 39), .ref (b + 16), .ref (b + 17), .ref (b + 18), .ref (b + 19), .ref (b + 20), .ref (b + 21), .int (S 0 46), .int (S 0 47), .int (S 0 48), .ref (b + 22)]
def mC (G : GG) (b : Nat) (S : SS) : Nat → Option va_E
  | 0 => some (.inr (3, mF b S))
  | 1 => some (aI G 348 (S 1))
  | 2 => some (aI G 4176 (S 2))
  | 3 => some (aI G 64 (S 3))
  | 4 => some (aI G 12 (S 4))
  | 5 => some (aI G 12 (S 5))
  | 6 => some (aI G 12 (S 6))
  | 7 => some (aI G 400 (S 7))
  | 8 => some (aI G 400 (S 8))
  | 9 => some (aI G 62 (S 9))
  | 10 => some (aI G 32 (S 10))
  | 11 => some (aI G 32 (S 11))
  | 12 => some (aI G 32 (S 12))
  | 13 => some (aI G 800 (S 13))
  | 14 => some (aI G 800 (S 14))
  | 15 => some (aI G 40 (S 15))
  | 16 => some (aI G 9 (S 16))
  | 17 => some (aI G 420 (S 17))
  | 18 => some (aI G 64 (S 18))
  | 19 => some (aI G 64 (S 19))
  | 20 => some (aI G 4096 (S 20))
  | 21 => some (aI G 12 (S 21))
  | 22 => some (aI G 1800 (S 22))
  | _ => none
def IsMod (G : GG) (b : Nat) (S : SS) (h : AH) : Prop := G.2.2.1.size ≤ b ∧ ∀ o e, mC G b S o = some e → h (b + o) = some e
def FrM (b : Nat) (h h' : AH) : Prop := ∀ a, (a < b ∨ b + 23 ≤ a) → h' a = h a
theorem mC_eq {G : GG} {b : Nat} {S S' : SS} : ∀ {o : Nat}, S' o = S o → mC G b S' o = mC G b S o
  | 0, h => by show some (Sum.inr (3, mF b S')) = some (Sum.inr (3, mF b S)); unfold mF; rw [h]
  | 1, h => by show some (aI G 348 (S' 1)) = some (aI G 348 (S 1)); rw [h]
  | 2, h => by show some (aI G 4176 (S' 2)) = some (aI G 4176 (S 2)); rw [h]
  | 3, h => by show some (aI G 64 (S' 3)) = some (aI G 64 (S 3)); rw [h]
  | 4, h => by show some (aI G 12 (S' 4)) = some (aI G 12 (S 4)); rw [h]
  | 5, h => by show some (aI G 12 (S' 5)) = some (aI G 12 (S 5)); rw [h]
  | 6, h => by show some (aI G 12 (S' 6)) = some (aI G 12 (S 6)); rw [h]
  | 7, h => by show some (aI G 400 (S' 7)) = some (aI G 400 (S 7)); rw [h]
  | 8, h => by show some (aI G 400 (S' 8)) = some (aI G 400 (S 8)); rw [h]
  | 9, h => by show some (aI G 62 (S' 9)) = some (aI G 62 (S 9)); rw [h]
  | 10, h => by show some (aI G 32 (S' 10)) = some (aI G 32 (S 10)); rw [h]
  | 11, h => by show some (aI G 32 (S' 11)) = some (aI G 32 (S 11)); rw [h]
  | 12, h => by show some (aI G 32 (S' 12)) = some (aI G 32 (S 12)); rw [h]
  | 13, h => by show some (aI G 800 (S' 13)) = some (aI G 800 (S 13)); rw [h]
  | 14, h => by show some (aI G 800 (S' 14)) = some (aI G 800 (S 14)); rw [h]
  | 15, h => by show some (aI G 40 (S' 15)) = some (aI G 40 (S 15)); rw [h]
  | 16, h => by show some (aI G 9 (S' 16)) = some (aI G 9 (S 16)); rw [h]
  | 17, h => by show some (aI G 420 (S' 17)) = some (aI G 420 (S 17)); rw [h]
  | 18, h => by show some (aI G 64 (S' 18)) = some (aI G 64 (S 18)); rw [h]
  | 19, h => by show some (aI G 64 (S' 19)) = some (aI G 64 (S 19)); rw [h]
  | 20, h => by show some (aI G 4096 (S' 20)) = some (aI G 4096 (S 20)); rw [h]
  | 21, h => by show some (aI G 12 (S' 21)) = some (aI G 12 (S 21)); rw [h]
  | 22, h => by show some (aI G 1800 (S' 22)) = some (aI G 1800 (S 22)); rw [h]
  | _ + 23, _ => rfl
theorem mC_hi {G : GG} {b : Nat} {S : SS} {o : Nat} {e : va_E} (h : mC G b S o = some e) : o < 23 := by
  apply Decidable.byContradiction
  intro hn
  obtain ⟨k, rfl⟩ : ∃ k, o = k + 23 := ⟨o - 23, by omega⟩
  cases h
section MM
variable {G : GG} {b : Nat} {S : SS} {h h2 : AH}
theorem IsMod.obj (w : IsMod G b S h) : h b = some (.inr (3, mF b S)) := w.2 0 _ rfl
theorem IsMod.N (w : IsMod G b S h) : G.2.2.1.size ≤ b := w.1
theorem IsMod.No (w : IsMod G b S h) (o : Nat) : G.2.2.1.size ≤ b + o := Nat.le_trans w.1 (Nat.le_add_right _ _)
theorem IsMod.arr (w : IsMod G b S h) (o : Nat) {e : va_E} (he : mC G b S o = some e) : h (b + o) = some e := w.2 o e he
theorem IsMod.recv (w : IsMod G b S h) : ∃ fs, h b = some (.inr (3, fs)) := ⟨_, w.obj⟩
theorem IsMod.wr (w : IsMod G b S h) {o : Nat} {e : va_E} {S' : SS} (he : mC G b S' o = some e) (hS : ∀ o', o' ≠ o → S' o' = S o') : IsMod G b S' (ahU h (b + o) e) := by
  refine ⟨w.1, fun o' e' h' => ?_⟩
  by_cases eo : o' = o
  · subst eo
    rw [ahU_s]
    exact he.symm.trans h'
  · rw [ahU_n (by omega)]
    rw [mC_eq (hS o' eo)] at h'
    exact w.2 o' e' h'
theorem IsMod.u0 (w : IsMod G b S h) {k : Nat} {x : Int32} (e : h2 = ahU h b (.inr (3, (mF b S).set k (.int x)))) (hk : (mF b S).set k (.int x) = mF b (up2 S 0 k x)) : IsMod G b (up2 S 0 k x) h2 := by
  rw [e, hk]
  exact w.wr (o := 0) rfl (fun _ h => if_neg h)
theorem IsMod.uA (w : IsMod G b S h) {o n j : Nat} {x : Int32} (e : h2 = ahU h (b + o) (.inl (G.2.1 0, n, .inl (upd (S o) j x)))) (hk : mC G b (up2 S o j x) o = some (aI G n (up2 S o j x o))) : IsMod G b (up2 S o j x) h2 := by
  rw [e]
  refine w.wr ?_ (fun _ h => if_neg h)
  rw [hk]
  show some (aI G n (if o = o then _ else _)) = _
  rw [if_pos rfl]
  rfl
theorem IsMod.fr (w : IsMod G b S h) (hq : ∀ a, b ≤ a → a < b + 23 → h2 a = h a) : IsMod G b S h2 := by
  refine ⟨w.1, fun o e he => ?_⟩
  have := mC_hi he
  rw [hq _ (by omega) (by omega)]
  exact w.2 o e he
theorem FrM.rf : FrM b h h := fun _ _ => rfl
theorem FrM.tr {h1 h3 : AH} (a : FrM b h h1) (c : FrM b h1 h3) : FrM b h h3 := fun q hq => (c q hq).trans (a q hq)
theorem FrM.u0 {h1 : AH} (a : FrM b h h1) {c : va_E} (e : h2 = ahU h1 b c) : FrM b h h2 := by
  rw [e]
  intro q hq
  rw [ahU_n (by omega)]
  exact a q hq
theorem FrM.uA {h1 : AH} (a : FrM b h h1) {o : Nat} {c : va_E} (e : h2 = ahU h1 (b + o) c) (ho : o < 23) : FrM b h h2 := by
  rw [e]
  intro q hq
  rw [ahU_n (by omega)]
  exact a q hq
end MM
def mR0 {α : Type} (pre : α → SS → Prop) (f : α → SS → Int32) : GG → CSpec := fun G as h Q => match as with
  | [.ref b] => ∃ (S : SS) (a : α), IsMod G b S h ∧ pre a S ∧ ∀ v, v = f a S → Q (some (.int v)) h
  | _ => False
def mW0 {α : Type} (pre : α → SS → Prop) (post : α → SS → Int32 → SS → Prop) : GG → CSpec := fun G as h Q => match as with
  | [.ref b] => ∃ (S : SS) (a : α), IsMod G b S h ∧ pre a S ∧ ∀ v S' h', post a S v S' → IsMod G b S' h' → FrM b h h' → Q (some (.int v)) h'
  | _ => False
def mV0 {α : Type} (pre : α → SS → Prop) (post : α → SS → SS → Prop) : GG → CSpec := fun G as h Q => match as with
  | [.ref b] => ∃ (S : SS) (a : α), IsMod G b S h ∧ pre a S ∧ ∀ S' h', post a S S' → IsMod G b S' h' → FrM b h h' → Q none h'
  | _ => False
theorem mmR0 {α : Type} {pre : α → SS → Prop} {f : α → SS → Int32} {G : GG} : Mono (mR0 pre f G) := by
  intro as h Q Q' hQ hs
  unfold mR0 at hs ⊢
  split at hs
  · obtain ⟨S, a, h1, h2, h3⟩ := hs
    exact ⟨S, a, h1, h2, fun v e => hQ _ _ (h3 v e)⟩
  · exact hs.elim
theorem mrR0 {α : Type} {pre : α → SS → Prop} {f : α → SS → Int32} {G : GG} : ∀ as h Q, as.length = 0 + 1 → mR0 pre f G as h Q → ∃ b as', as = .ref b :: as' ∧ ∃ fs, h b = some (.inr (3, fs)) := by
  intro as h Q _ hs
  unfold mR0 at hs
  split at hs
  · obtain ⟨S, a, h1, h2, h3⟩ := hs
    exact ⟨_, _, rfl, h1.recv⟩
  · exact hs.elim
theorem mmW0 {α : Type} {pre : α → SS → Prop} {post : α → SS → Int32 → SS → Prop} {G : GG} : Mono (mW0 pre post G) := by
  intro as h Q Q' hQ hs
  unfold mW0 at hs ⊢
  split at hs
  · obtain ⟨S, a, h1, h2, h3⟩ := hs
    exact ⟨S, a, h1, h2, fun v S' h' p1 p2 p3 => hQ _ _ (h3 v S' h' p1 p2 p3)⟩
  · exact hs.elim
theorem mrW0 {α : Type} {pre : α → SS → Prop} {post : α → SS → Int32 → SS → Prop} {G : GG} : ∀ as h Q, as.length = 0 + 1 → mW0 pre post G as h Q → ∃ b as', as = .ref b :: as' ∧ ∃ fs, h b = some (.inr (3, fs)) := by
  intro as h Q _ hs
  unfold mW0 at hs
  split at hs
  · obtain ⟨S, a, h1, h2, h3⟩ := hs
    exact ⟨_, _, rfl, h1.recv⟩
  · exact hs.elim
theorem mmV0 {α : Type} {pre : α → SS → Prop} {post : α → SS → SS → Prop} {G : GG} : Mono (mV0 pre post G) := by
  intro as h Q Q' hQ hs
  unfold mV0 at hs ⊢
  split at hs
  · obtain ⟨S, a, h1, h2, h3⟩ := hs
    exact ⟨S, a, h1, h2, fun S' h' p1 p2 p3 => hQ _ _ (h3 S' h' p1 p2 p3)⟩
  · exact hs.elim
theorem mrV0 {α : Type} {pre : α → SS → Prop} {post : α → SS → SS → Prop} {G : GG} : ∀ as h Q, as.length = 0 + 1 → mV0 pre post G as h Q → ∃ b as', as = .ref b :: as' ∧ ∃ fs, h b = some (.inr (3, fs)) := by
  intro as h Q _ hs
  unfold mV0 at hs
  split at hs
  · obtain ⟨S, a, h1, h2, h3⟩ := hs
    exact ⟨_, _, rfl, h1.recv⟩
  · exact hs.elim
def mR1 {α : Type} (pre : α → Int32 → SS → Prop) (f : α → Int32 → SS → Int32) : GG → CSpec := fun G as h Q => match as with
  | [.ref b, .int x1] => ∃ (S : SS) (a : α), IsMod G b S h ∧ pre a x1 S ∧ ∀ v, v = f a x1 S → Q (some (.int v)) h
  | _ => False
def mW1 {α : Type} (pre : α → Int32 → SS → Prop) (post : α → Int32 → SS → Int32 → SS → Prop) : GG → CSpec := fun G as h Q => match as with
  | [.ref b, .int x1] => ∃ (S : SS) (a : α), IsMod G b S h ∧ pre a x1 S ∧ ∀ v S' h', post a x1 S v S' → IsMod G b S' h' → FrM b h h' → Q (some (.int v)) h'
  | _ => False
def mV1 {α : Type} (pre : α → Int32 → SS → Prop) (post : α → Int32 → SS → SS → Prop) : GG → CSpec := fun G as h Q => match as with
  | [.ref b, .int x1] => ∃ (S : SS) (a : α), IsMod G b S h ∧ pre a x1 S ∧ ∀ S' h', post a x1 S S' → IsMod G b S' h' → FrM b h h' → Q none h'
  | _ => False
theorem mmR1 {α : Type} {pre : α → Int32 → SS → Prop} {f : α → Int32 → SS → Int32} {G : GG} : Mono (mR1 pre f G) := by
  intro as h Q Q' hQ hs
  unfold mR1 at hs ⊢
  split at hs
  · obtain ⟨S, a, h1, h2, h3⟩ := hs
    exact ⟨S, a, h1, h2, fun v e => hQ _ _ (h3 v e)⟩
  · exact hs.elim
theorem mrR1 {α : Type} {pre : α → Int32 → SS → Prop} {f : α → Int32 → SS → Int32} {G : GG} : ∀ as h Q, as.length = 1 + 1 → mR1 pre f G as h Q → ∃ b as', as = .ref b :: as' ∧ ∃ fs, h b = some (.inr (3, fs)) := by
  intro as h Q _ hs
  unfold mR1 at hs
  split at hs
  · obtain ⟨S, a, h1, h2, h3⟩ := hs
    exact ⟨_, _, rfl, h1.recv⟩
  · exact hs.elim
theorem mmW1 {α : Type} {pre : α → Int32 → SS → Prop} {post : α → Int32 → SS → Int32 → SS → Prop} {G : GG} : Mono (mW1 pre post G) := by
  intro as h Q Q' hQ hs
  unfold mW1 at hs ⊢
  split at hs
  · obtain ⟨S, a, h1, h2, h3⟩ := hs
    exact ⟨S, a, h1, h2, fun v S' h' p1 p2 p3 => hQ _ _ (h3 v S' h' p1 p2 p3)⟩
  · exact hs.elim
theorem mrW1 {α : Type} {pre : α → Int32 → SS → Prop} {post : α → Int32 → SS → Int32 → SS → Prop} {G : GG} : ∀ as h Q, as.length = 1 + 1 → mW1 pre post G as h Q → ∃ b as', as = .ref b :: as' ∧ ∃ fs, h b = some (.inr (3, fs)) := by
  intro as h Q _ hs
  unfold mW1 at hs
  split at hs
  · obtain ⟨S, a, h1, h2, h3⟩ := hs
    exact ⟨_, _, rfl, h1.recv⟩
  · exact hs.elim
theorem mmV1 {α : Type} {pre : α → Int32 → SS → Prop} {post : α → Int32 → SS → SS → Prop} {G : GG} : Mono (mV1 pre post G) := by
  intro as h Q Q' hQ hs
  unfold mV1 at hs ⊢
  split at hs
  · obtain ⟨S, a, h1, h2, h3⟩ := hs
    exact ⟨S, a, h1, h2, fun S' h' p1 p2 p3 => hQ _ _ (h3 S' h' p1 p2 p3)⟩
  · exact hs.elim
theorem mrV1 {α : Type} {pre : α → Int32 → SS → Prop} {post : α → Int32 → SS → SS → Prop} {G : GG} : ∀ as h Q, as.length = 1 + 1 → mV1 pre post G as h Q → ∃ b as', as = .ref b :: as' ∧ ∃ fs, h b = some (.inr (3, fs)) := by
  intro as h Q _ hs
  unfold mV1 at hs
  split at hs
  · obtain ⟨S, a, h1, h2, h3⟩ := hs
    exact ⟨_, _, rfl, h1.recv⟩
  · exact hs.elim
def mR2 {α : Type} (pre : α → Int32 → Int32 → SS → Prop) (f : α → Int32 → Int32 → SS → Int32) : GG → CSpec := fun G as h Q => match as with
  | [.ref b, .int x1, .int x2] => ∃ (S : SS) (a : α), IsMod G b S h ∧ pre a x1 x2 S ∧ ∀ v, v = f a x1 x2 S → Q (some (.int v)) h
  | _ => False
def mW2 {α : Type} (pre : α → Int32 → Int32 → SS → Prop) (post : α → Int32 → Int32 → SS → Int32 → SS → Prop) : GG → CSpec := fun G as h Q => match as with
  | [.ref b, .int x1, .int x2] => ∃ (S : SS) (a : α), IsMod G b S h ∧ pre a x1 x2 S ∧ ∀ v S' h', post a x1 x2 S v S' → IsMod G b S' h' → FrM b h h' → Q (some (.int v)) h'
  | _ => False
def mV2 {α : Type} (pre : α → Int32 → Int32 → SS → Prop) (post : α → Int32 → Int32 → SS → SS → Prop) : GG → CSpec := fun G as h Q => match as with
  | [.ref b, .int x1, .int x2] => ∃ (S : SS) (a : α), IsMod G b S h ∧ pre a x1 x2 S ∧ ∀ S' h', post a x1 x2 S S' → IsMod G b S' h' → FrM b h h' → Q none h'
  | _ => False
theorem mmR2 {α : Type} {pre : α → Int32 → Int32 → SS → Prop} {f : α → Int32 → Int32 → SS → Int32} {G : GG} : Mono (mR2 pre f G) := by
  intro as h Q Q' hQ hs
  unfold mR2 at hs ⊢
  split at hs
  · obtain ⟨S, a, h1, h2, h3⟩ := hs
    exact ⟨S, a, h1, h2, fun v e => hQ _ _ (h3 v e)⟩
  · exact hs.elim
theorem mrR2 {α : Type} {pre : α → Int32 → Int32 → SS → Prop} {f : α → Int32 → Int32 → SS → Int32} {G : GG} : ∀ as h Q, as.length = 2 + 1 → mR2 pre f G as h Q → ∃ b as', as = .ref b :: as' ∧ ∃ fs, h b = some (.inr (3, fs)) := by
  intro as h Q _ hs
  unfold mR2 at hs
  split at hs
  · obtain ⟨S, a, h1, h2, h3⟩ := hs
    exact ⟨_, _, rfl, h1.recv⟩
  · exact hs.elim
theorem mmW2 {α : Type} {pre : α → Int32 → Int32 → SS → Prop} {post : α → Int32 → Int32 → SS → Int32 → SS → Prop} {G : GG} : Mono (mW2 pre post G) := by
  intro as h Q Q' hQ hs
  unfold mW2 at hs ⊢
  split at hs
  · obtain ⟨S, a, h1, h2, h3⟩ := hs
    exact ⟨S, a, h1, h2, fun v S' h' p1 p2 p3 => hQ _ _ (h3 v S' h' p1 p2 p3)⟩
  · exact hs.elim
theorem mrW2 {α : Type} {pre : α → Int32 → Int32 → SS → Prop} {post : α → Int32 → Int32 → SS → Int32 → SS → Prop} {G : GG} : ∀ as h Q, as.length = 2 + 1 → mW2 pre post G as h Q → ∃ b as', as = .ref b :: as' ∧ ∃ fs, h b = some (.inr (3, fs)) := by
  intro as h Q _ hs
  unfold mW2 at hs
  split at hs
  · obtain ⟨S, a, h1, h2, h3⟩ := hs
    exact ⟨_, _, rfl, h1.recv⟩
  · exact hs.elim
theorem mmV2 {α : Type} {pre : α → Int32 → Int32 → SS → Prop} {post : α → Int32 → Int32 → SS → SS → Prop} {G : GG} : Mono (mV2 pre post G) := by
  intro as h Q Q' hQ hs
  unfold mV2 at hs ⊢
  split at hs
  · obtain ⟨S, a, h1, h2, h3⟩ := hs
    exact ⟨S, a, h1, h2, fun S' h' p1 p2 p3 => hQ _ _ (h3 S' h' p1 p2 p3)⟩
  · exact hs.elim
theorem mrV2 {α : Type} {pre : α → Int32 → Int32 → SS → Prop} {post : α → Int32 → Int32 → SS → SS → Prop} {G : GG} : ∀ as h Q, as.length = 2 + 1 → mV2 pre post G as h Q → ∃ b as', as = .ref b :: as' ∧ ∃ fs, h b = some (.inr (3, fs)) := by
  intro as h Q _ hs
  unfold mV2 at hs
  split at hs
  · obtain ⟨S, a, h1, h2, h3⟩ := hs
    exact ⟨_, _, rfl, h1.recv⟩
  · exact hs.elim
def mR3 {α : Type} (pre : α → Int32 → Int32 → Int32 → SS → Prop) (f : α → Int32 → Int32 → Int32 → SS → Int32) : GG → CSpec := fun G as h Q => match as with
  | [.ref b, .int x1, .int x2, .int x3] => ∃ (S : SS) (a : α), IsMod G b S h ∧ pre a x1 x2 x3 S ∧ ∀ v, v = f a x1 x2 x3 S → Q (some (.int v)) h
  | _ => False
def mW3 {α : Type} (pre : α → Int32 → Int32 → Int32 → SS → Prop) (post : α → Int32 → Int32 → Int32 → SS → Int32 → SS → Prop) : GG → CSpec := fun G as h Q => match as with
  | [.ref b, .int x1, .int x2, .int x3] => ∃ (S : SS) (a : α), IsMod G b S h ∧ pre a x1 x2 x3 S ∧ ∀ v S' h', post a x1 x2 x3 S v S' → IsMod G b S' h' → FrM b h h' → Q (some (.int v)) h'
  | _ => False
def mV3 {α : Type} (pre : α → Int32 → Int32 → Int32 → SS → Prop) (post : α → Int32 → Int32 → Int32 → SS → SS → Prop) : GG → CSpec := fun G as h Q => match as with
  | [.ref b, .int x1, .int x2, .int x3] => ∃ (S : SS) (a : α), IsMod G b S h ∧ pre a x1 x2 x3 S ∧ ∀ S' h', post a x1 x2 x3 S S' → IsMod G b S' h' → FrM b h h' → Q none h'
  | _ => False
theorem mmR3 {α : Type} {pre : α → Int32 → Int32 → Int32 → SS → Prop} {f : α → Int32 → Int32 → Int32 → SS → Int32} {G : GG} : Mono (mR3 pre f G) := by
  intro as h Q Q' hQ hs
  unfold mR3 at hs ⊢
  split at hs
  · obtain ⟨S, a, h1, h2, h3⟩ := hs
    exact ⟨S, a, h1, h2, fun v e => hQ _ _ (h3 v e)⟩
  · exact hs.elim
theorem mrR3 {α : Type} {pre : α → Int32 → Int32 → Int32 → SS → Prop} {f : α → Int32 → Int32 → Int32 → SS → Int32} {G : GG} : ∀ as h Q, as.length = 3 + 1 → mR3 pre f G as h Q → ∃ b as', as = .ref b :: as' ∧ ∃ fs, h b = some (.inr (3, fs)) := by
  intro as h Q _ hs
  unfold mR3 at hs
  split at hs
  · obtain ⟨S, a, h1, h2, h3⟩ := hs
    exact ⟨_, _, rfl, h1.recv⟩
  · exact hs.elim
theorem mmW3 {α : Type} {pre : α → Int32 → Int32 → Int32 → SS → Prop} {post : α → Int32 → Int32 → Int32 → SS → Int32 → SS → Prop} {G : GG} : Mono (mW3 pre post G) := by
  intro as h Q Q' hQ hs
  unfold mW3 at hs ⊢
  split at hs
  · obtain ⟨S, a, h1, h2, h3⟩ := hs
    exact ⟨S, a, h1, h2, fun v S' h' p1 p2 p3 => hQ _ _ (h3 v S' h' p1 p2 p3)⟩
  · exact hs.elim
theorem mrW3 {α : Type} {pre : α → Int32 → Int32 → Int32 → SS → Prop} {post : α → Int32 → Int32 → Int32 → SS → Int32 → SS → Prop} {G : GG} : ∀ as h Q, as.length = 3 + 1 → mW3 pre post G as h Q → ∃ b as', as = .ref b :: as' ∧ ∃ fs, h b = some (.inr (3, fs)) := by
  intro as h Q _ hs
  unfold mW3 at hs
  split at hs
  · obtain ⟨S, a, h1, h2, h3⟩ := hs
    exact ⟨_, _, rfl, h1.recv⟩
  · exact hs.elim
theorem mmV3 {α : Type} {pre : α → Int32 → Int32 → Int32 → SS → Prop} {post : α → Int32 → Int32 → Int32 → SS → SS → Prop} {G : GG} : Mono (mV3 pre post G) := by
  intro as h Q Q' hQ hs
  unfold mV3 at hs ⊢
  split at hs
  · obtain ⟨S, a, h1, h2, h3⟩ := hs
    exact ⟨S, a, h1, h2, fun S' h' p1 p2 p3 => hQ _ _ (h3 S' h' p1 p2 p3)⟩
  · exact hs.elim
theorem mrV3 {α : Type} {pre : α → Int32 → Int32 → Int32 → SS → Prop} {post : α → Int32 → Int32 → Int32 → SS → SS → Prop} {G : GG} : ∀ as h Q, as.length = 3 + 1 → mV3 pre post G as h Q → ∃ b as', as = .ref b :: as' ∧ ∃ fs, h b = some (.inr (3, fs)) := by
  intro as h Q _ hs
  unfold mV3 at hs
  split at hs
  · obtain ⟨S, a, h1, h2, h3⟩ := hs
    exact ⟨_, _, rfl, h1.recv⟩
  · exact hs.elim
def mR4 {α : Type} (pre : α → Int32 → Int32 → Int32 → Int32 → SS → Prop) (f : α → Int32 → Int32 → Int32 → Int32 → SS → Int32) : GG → CSpec := fun G as h Q => match as with
  | [.ref b, .int x1, .int x2, .int x3, .int x4] => ∃ (S : SS) (a : α), IsMod G b S h ∧ pre a x1 x2 x3 x4 S ∧ ∀ v, v = f a x1 x2 x3 x4 S → Q (some (.int v)) h
  | _ => False
def mW4 {α : Type} (pre : α → Int32 → Int32 → Int32 → Int32 → SS → Prop) (post : α → Int32 → Int32 → Int32 → Int32 → SS → Int32 → SS → Prop) : GG → CSpec := fun G as h Q => match as with
  | [.ref b, .int x1, .int x2, .int x3, .int x4] => ∃ (S : SS) (a : α), IsMod G b S h ∧ pre a x1 x2 x3 x4 S ∧ ∀ v S' h', post a x1 x2 x3 x4 S v S' → IsMod G b S' h' → FrM b h h' → Q (some (.int v)) h'
  | _ => False
def mV4 {α : Type} (pre : α → Int32 → Int32 → Int32 → Int32 → SS → Prop) (post : α → Int32 → Int32 → Int32 → Int32 → SS → SS → Prop) : GG → CSpec := fun G as h Q => match as with
  | [.ref b, .int x1, .int x2, .int x3, .int x4] => ∃ (S : SS) (a : α), IsMod G b S h ∧ pre a x1 x2 x3 x4 S ∧ ∀ S' h', post a x1 x2 x3 x4 S S' → IsMod G b S' h' → FrM b h h' → Q none h'
  | _ => False
theorem mmR4 {α : Type} {pre : α → Int32 → Int32 → Int32 → Int32 → SS → Prop} {f : α → Int32 → Int32 → Int32 → Int32 → SS → Int32} {G : GG} : Mono (mR4 pre f G) := by
  intro as h Q Q' hQ hs
  unfold mR4 at hs ⊢
  split at hs
  · obtain ⟨S, a, h1, h2, h3⟩ := hs
    exact ⟨S, a, h1, h2, fun v e => hQ _ _ (h3 v e)⟩
  · exact hs.elim
theorem mrR4 {α : Type} {pre : α → Int32 → Int32 → Int32 → Int32 → SS → Prop} {f : α → Int32 → Int32 → Int32 → Int32 → SS → Int32} {G : GG} : ∀ as h Q, as.length = 4 + 1 → mR4 pre f G as h Q → ∃ b as', as = .ref b :: as' ∧ ∃ fs, h b = some (.inr (3, fs)) := by
  intro as h Q _ hs
  unfold mR4 at hs
  split at hs
  · obtain ⟨S, a, h1, h2, h3⟩ := hs
    exact ⟨_, _, rfl, h1.recv⟩
  · exact hs.elim
theorem mmW4 {α : Type} {pre : α → Int32 → Int32 → Int32 → Int32 → SS → Prop} {post : α → Int32 → Int32 → Int32 → Int32 → SS → Int32 → SS → Prop} {G : GG} : Mono (mW4 pre post G) := by
  intro as h Q Q' hQ hs
  unfold mW4 at hs ⊢
  split at hs
  · obtain ⟨S, a, h1, h2, h3⟩ := hs
    exact ⟨S, a, h1, h2, fun v S' h' p1 p2 p3 => hQ _ _ (h3 v S' h' p1 p2 p3)⟩
  · exact hs.elim
theorem mrW4 {α : Type} {pre : α → Int32 → Int32 → Int32 → Int32 → SS → Prop} {post : α → Int32 → Int32 → Int32 → Int32 → SS → Int32 → SS → Prop} {G : GG} : ∀ as h Q, as.length = 4 + 1 → mW4 pre post G as h Q → ∃ b as', as = .ref b :: as' ∧ ∃ fs, h b = some (.inr (3, fs)) := by
  intro as h Q _ hs
  unfold mW4 at hs
  split at hs
  · obtain ⟨S, a, h1, h2, h3⟩ := hs
    exact ⟨_, _, rfl, h1.recv⟩
  · exact hs.elim
theorem mmV4 {α : Type} {pre : α → Int32 → Int32 → Int32 → Int32 → SS → Prop} {post : α → Int32 → Int32 → Int32 → Int32 → SS → SS → Prop} {G : GG} : Mono (mV4 pre post G) := by
  intro as h Q Q' hQ hs
  unfold mV4 at hs ⊢
  split at hs
  · obtain ⟨S, a, h1, h2, h3⟩ := hs
    exact ⟨S, a, h1, h2, fun S' h' p1 p2 p3 => hQ _ _ (h3 S' h' p1 p2 p3)⟩
  · exact hs.elim
theorem mrV4 {α : Type} {pre : α → Int32 → Int32 → Int32 → Int32 → SS → Prop} {post : α → Int32 → Int32 → Int32 → Int32 → SS → SS → Prop} {G : GG} : ∀ as h Q, as.length = 4 + 1 → mV4 pre post G as h Q → ∃ b as', as = .ref b :: as' ∧ ∃ fs, h b = some (.inr (3, fs)) := by
  intro as h Q _ hs
  unfold mV4 at hs
  split at hs
  · obtain ⟨S, a, h1, h2, h3⟩ := hs
    exact ⟨_, _, rfl, h1.recv⟩
  · exact hs.elim
def mR5 {α : Type} (pre : α → Int32 → Int32 → Int32 → Int32 → Int32 → SS → Prop) (f : α → Int32 → Int32 → Int32 → Int32 → Int32 → SS → Int32) : GG → CSpec := fun G as h Q => match as with
  | [.ref b, .int x1, .int x2, .int x3, .int x4, .int x5] => ∃ (S : SS) (a : α), IsMod G b S h ∧ pre a x1 x2 x3 x4 x5 S ∧ ∀ v, v = f a x1 x2 x3 x4 x5 S → Q (some (.int v)) h
  | _ => False
def mW5 {α : Type} (pre : α → Int32 → Int32 → Int32 → Int32 → Int32 → SS → Prop) (post : α → Int32 → Int32 → Int32 → Int32 → Int32 → SS → Int32 → SS → Prop) : GG → CSpec := fun G as h Q => match as with
  | [.ref b, .int x1, .int x2, .int x3, .int x4, .int x5] => ∃ (S : SS) (a : α), IsMod G b S h ∧ pre a x1 x2 x3 x4 x5 S ∧ ∀ v S' h', post a x1 x2 x3 x4 x5 S v S' → IsMod G b S' h' → FrM b h h' → Q (some (.int v)) h'
  | _ => False
def mV5 {α : Type} (pre : α → Int32 → Int32 → Int32 → Int32 → Int32 → SS → Prop) (post : α → Int32 → Int32 → Int32 → Int32 → Int32 → SS → SS → Prop) : GG → CSpec := fun G as h Q => match as with
  | [.ref b, .int x1, .int x2, .int x3, .int x4, .int x5] => ∃ (S : SS) (a : α), IsMod G b S h ∧ pre a x1 x2 x3 x4 x5 S ∧ ∀ S' h', post a x1 x2 x3 x4 x5 S S' → IsMod G b S' h' → FrM b h h' → Q none h'
  | _ => False
theorem mmR5 {α : Type} {pre : α → Int32 → Int32 → Int32 → Int32 → Int32 → SS → Prop} {f : α → Int32 → Int32 → Int32 → Int32 → Int32 → SS → Int32} {G : GG} : Mono (mR5 pre f G) := by
  intro as h Q Q' hQ hs
  unfold mR5 at hs ⊢
  split at hs
  · obtain ⟨S, a, h1, h2, h3⟩ := hs
    exact ⟨S, a, h1, h2, fun v e => hQ _ _ (h3 v e)⟩
  · exact hs.elim
theorem mrR5 {α : Type} {pre : α → Int32 → Int32 → Int32 → Int32 → Int32 → SS → Prop} {f : α → Int32 → Int32 → Int32 → Int32 → Int32 → SS → Int32} {G : GG} : ∀ as h Q, as.length = 5 + 1 → mR5 pre f G as h Q → ∃ b as', as = .ref b :: as' ∧ ∃ fs, h b = some (.inr (3, fs)) := by
  intro as h Q _ hs
  unfold mR5 at hs
  split at hs
  · obtain ⟨S, a, h1, h2, h3⟩ := hs
    exact ⟨_, _, rfl, h1.recv⟩
  · exact hs.elim
theorem mmW5 {α : Type} {pre : α → Int32 → Int32 → Int32 → Int32 → Int32 → SS → Prop} {post : α → Int32 → Int32 → Int32 → Int32 → Int32 → SS → Int32 → SS → Prop} {G : GG} : Mono (mW5 pre post G) := by
  intro as h Q Q' hQ hs
  unfold mW5 at hs ⊢
  split at hs
  · obtain ⟨S, a, h1, h2, h3⟩ := hs
    exact ⟨S, a, h1, h2, fun v S' h' p1 p2 p3 => hQ _ _ (h3 v S' h' p1 p2 p3)⟩
  · exact hs.elim
theorem mrW5 {α : Type} {pre : α → Int32 → Int32 → Int32 → Int32 → Int32 → SS → Prop} {post : α → Int32 → Int32 → Int32 → Int32 → Int32 → SS → Int32 → SS → Prop} {G : GG} : ∀ as h Q, as.length = 5 + 1 → mW5 pre post G as h Q → ∃ b as', as = .ref b :: as' ∧ ∃ fs, h b = some (.inr (3, fs)) := by
  intro as h Q _ hs
  unfold mW5 at hs
  split at hs
  · obtain ⟨S, a, h1, h2, h3⟩ := hs
    exact ⟨_, _, rfl, h1.recv⟩
  · exact hs.elim
theorem mmV5 {α : Type} {pre : α → Int32 → Int32 → Int32 → Int32 → Int32 → SS → Prop} {post : α → Int32 → Int32 → Int32 → Int32 → Int32 → SS → SS → Prop} {G : GG} : Mono (mV5 pre post G) := by
  intro as h Q Q' hQ hs
  unfold mV5 at hs ⊢
  split at hs
  · obtain ⟨S, a, h1, h2, h3⟩ := hs
    exact ⟨S, a, h1, h2, fun S' h' p1 p2 p3 => hQ _ _ (h3 S' h' p1 p2 p3)⟩
  · exact hs.elim
theorem mrV5 {α : Type} {pre : α → Int32 → Int32 → Int32 → Int32 → Int32 → SS → Prop} {post : α → Int32 → Int32 → Int32 → Int32 → Int32 → SS → SS → Prop} {G : GG} : ∀ as h Q, as.length = 5 + 1 → mV5 pre post G as h Q → ∃ b as', as = .ref b :: as' ∧ ∃ fs, h b = some (.inr (3, fs)) := by
  intro as h Q _ hs
  unfold mV5 at hs
  split at hs
  · obtain ⟨S, a, h1, h2, h3⟩ := hs
    exact ⟨_, _, rfl, h1.recv⟩
  · exact hs.elim
