set_option maxRecDepth 100000
/-! the wood written: one array or one field at a time -/
def setF (S : Nat → Nat → Int32) (o : Nat) (f : Nat → Int32) : Nat → Nat → Int32 := fun o' => if o' = o then f else S o'
theorem setF_s {S : Nat → Nat → Int32} {o : Nat} {f : Nat → Int32} : setF S o f o = f := by simp [setF]
theorem setF_n {S : Nat → Nat → Int32} {o o' : Nat} {f : Nat → Int32} (n : o' ≠ o) : setF S o f o' = S o' := by simp [setF, n]
theorem setF_self (S : Nat → Nat → Int32) (o : Nat) : setF S o (S o) = S := by
  funext o'
  by_cases e : o' = o
  · subst e; exact setF_s
  · exact setF_n e
theorem setF_setF (S : Nat → Nat → Int32) (o : Nat) (f g : Nat → Int32) : setF (setF S o f) o g = setF S o g := by
  funext o'
  by_cases e : o' = o
  · subst e; rw [setF_s, setF_s]
  · rw [setF_n e, setF_n e, setF_n e]
theorem wK_0 {o : Nat} (h : wK o = 0) : o = 0 := by
  unfold wK at h
  by_cases e : o = 0
  · exact e
  · simp only [if_neg e] at h
    repeat (first | (split at h) | (exact absurd h (by decide)))
    all_goals exact absurd h (by decide)
theorem wC_eq {G : GG} {b law : Nat} {S S' : Nat → Nat → Int32} {o : Nat} (h : S' o = S o) : wC G b S' law o = wC G b S law o := by
  unfold wC
  split
  · rename_i hk
    have e := wK_0 hk
    subst e
    unfold wF
    rw [h]
  all_goals first | rfl | (rw [h]; done) | (unfold pF; rw [h])
theorem wC_law {G : GG} {b law law' : Nat} {S : Nat → Nat → Int32} {o : Nat} (h : o ≠ 0) : wC G b S law' o = wC G b S law o := by
  unfold wC
  split
  · rename_i hk
    exact absurd (wK_0 hk) h
  all_goals rfl
/-- outside of what a wood's methods write -/
def Out (b a : Nat) : Prop := a < b ∨ b + 125 ≤ a ∨ a = b + 112
def Fr (b : Nat) (h h' : AH) : Prop := ∀ a, Out b a → h' a = h a
theorem Fr.rf {b : Nat} {h : AH} : Fr b h h := fun _ _ => rfl
theorem Fr.tr {b : Nat} {h h1 h2 : AH} (a : Fr b h h1) (c : Fr b h1 h2) : Fr b h h2 := fun q hq => (c q hq).trans (a q hq)
theorem Fr.set {b o : Nat} {h h1 : AH} {e : va_E} (a : Fr b h h1) (ho : Nat.blt o 125 = true ∧ Nat.beq o 112 = false) : Fr b h (ahU h1 (b + o) e) := by
  intro q hq
  have h1 : o < 125 := Nat.le_of_ble_eq_true ho.1
  have h2 : o ≠ 112 := fun e => by rw [e] at ho; exact absurd ho.2 (by decide)
  rw [ahU_n (by rcases hq with h | h | h <;> omega)]
  exact a q hq
theorem Fr.set' {b o : Nat} {h h1 : AH} {e : va_E} (a : Fr b h h1) (h2 : o < 125) (h3 : o ≠ 112) : Fr b h (ahU h1 (b + o) e) := by
  intro q hq
  rw [ahU_n (by rcases hq with h | h | h <;> omega)]
  exact a q hq
theorem Fr.set0 {b : Nat} {h h1 : AH} {e : va_E} (a : Fr b h h1) : Fr b h (ahU h1 b e) := a.set (o := 0) ⟨rfl, rfl⟩
section WW
variable {G : GG} {b law : Nat} {S : Nat → Nat → Int32} {h : AH}
theorem IsWood.wr (w : IsWood G b S law h) {o : Nat} {e : va_E} {S' : Nat → Nat → Int32} (he : wC G b S' law o = some e) (hS : ∀ o', o' ≠ o → S' o' = S o') : IsWood G b S' law (ahU h (b + o) e) := by
  refine ⟨w.1, fun o' e' h' => ?_⟩
  by_cases eo : o' = o
  · subst eo
    rw [ahU_s]
    exact he.symm.trans h'
  · rw [ahU_n (by omega)]
    rw [wC_eq (hS o' eo)] at h'
    exact w.2 o' e' h'
theorem IsWood.wA (w : IsWood G b S law h) (o : Nat) {n : Nat} {f : Nat → Int32} (hk : (wK o = 1 ∧ n = 64) ∨ (wK o = 2 ∧ n = 12) ∨ (wK o = 3 ∧ n = 4)) : IsWood G b (setF S o f) law (ahU h (b + o) (.inl (G.2.1 0, n, .inl f))) := by
  refine w.wr ?_ (fun o' h => setF_n h)
  unfold wC
  rcases hk with ⟨hk, rfl⟩ | ⟨hk, rfl⟩ | ⟨hk, rfl⟩ <;> rw [hk] <;> (rw [setF_s]; rfl)
theorem IsWood.w0 (w : IsWood G b S law h) {fs : List Value} (S' : Nat → Nat → Int32) (hfs : fs = wF b S' law) (hS : ∀ o', o' ≠ 0 → S' o' = S o') : IsWood G b S' law (ahU h b (.inr (1, fs))) := by
  subst hfs
  exact w.wr (o := 0) rfl hS
theorem IsWood.wL (w : IsWood G b S law h) {fs : List Value} {law' : Nat} (hfs : fs = wF b S law') : IsWood G b S law' (ahU h b (.inr (1, fs))) := by
  subst hfs
  refine ⟨w.1, fun o' e' h' => ?_⟩
  by_cases eo : o' = 0
  · subst eo
    rw [show b + 0 = b from rfl, ahU_s]
    exact h'
  · rw [ahU_n (by omega)]
    rw [wC_law eo] at h'
    exact w.2 o' e' h'
theorem IsWood.fr (w : IsWood G b S law h) {h' : AH} (hq : ∀ o, o < 125 → o ≠ 112 → h' (b + o) = h (b + o)) : IsWood G b S law h' := by
  refine ⟨w.1, fun o e he => ?_⟩
  rw [hq o ?_ ?_]
  · exact w.2 o e he
  · apply Decidable.byContradiction
    intro hn
    have : wK o = 7 := by unfold wK; repeat (first | rfl | (rw [if_neg (by omega)]))
    unfold wC at he
    rw [this] at he
    cases he
  · intro e
    subst e
    cases he
end WW
/-! the same, the new heap being a variable -/
section WU
variable {G : GG} {b law : Nat} {S : Nat → Nat → Int32} {h h2 : AH}
theorem IsWood.u0 (w : IsWood G b S law h) {k : Nat} {x : Int32} (e : h2 = ahU h b (.inr (1, (wF b S law).set k (.int x)))) (hk : (wF b S law).set k (.int x) = wF b (up2 S 0 k x) law) : IsWood G b (up2 S 0 k x) law h2 := by
  rw [e]
  exact w.w0 _ hk (fun _ h => if_neg h)
theorem IsWood.uL (w : IsWood G b S law h) {law' : Nat} (e : h2 = ahU h b (.inr (1, (wF b S law).set 11 (.ref law')))) : IsWood G b S law' h2 := by
  rw [e]
  exact w.wL rfl
theorem IsWood.uA (w : IsWood G b S law h) {o n : Nat} {f : Nat → Int32} (e : h2 = ahU h (b + o) (.inl (G.2.1 0, n, .inl f))) (hk : (wK o = 1 ∧ n = 64) ∨ (wK o = 2 ∧ n = 12) ∨ (wK o = 3 ∧ n = 4)) : IsWood G b (setF S o f) law h2 := by
  rw [e]
  exact w.wA o hk
theorem IsWood.off (w : IsWood G b S law h) {a : Nat} {c : va_E} (e : h2 = ahU h a c) (ha : a < b ∨ b + 125 ≤ a) : IsWood G b S law h2 := by
  rw [e]
  exact w.fr (fun o h1 h2 => ahU_n (by omega))
theorem IsWood.out (w : IsWood G b S law h) {b' : Nat} (hf : Fr b' h h2) (ha : b + 125 ≤ b' ∨ b' + 125 ≤ b) : IsWood G b S law h2 :=
  w.fr (fun o h1 h2 => hf _ (by unfold Out; omega))
theorem Fr.u0 {h1 : AH} (a : Fr b h h1) {c : va_E} (e : h2 = ahU h1 b c) : Fr b h h2 := by
  rw [e]
  exact a.set0
theorem Fr.uA {h1 : AH} (a : Fr b h h1) {o : Nat} {c : va_E} (e : h2 = ahU h1 (b + o) c) (h3 : o < 125 ∧ o ≠ 112) : Fr b h h2 := by
  rw [e]
  exact a.set' h3.1 h3.2
end WU
/-- methods of a wood that write it: void, with none, one, two ints -/
def spV0 (F : (Nat → Nat → Int32) → Nat → Nat → Int32) : GG → CSpec := fun G as h Q => match as with
  | [.ref b] => ∃ (S : Nat → Nat → Int32) (law : Nat), IsWood G b S law h ∧ ∀ h', IsWood G b (F S) law h' → Fr b h h' → Q none h'
  | _ => False
def spV1 (F : (Nat → Nat → Int32) → Int32 → Nat → Nat → Int32) : GG → CSpec := fun G as h Q => match as with
  | [.ref b, .int x] => ∃ (S : Nat → Nat → Int32) (law : Nat), IsWood G b S law h ∧ ∀ h', IsWood G b (F S x) law h' → Fr b h h' → Q none h'
  | _ => False
theorem moV0 {F : (Nat → Nat → Int32) → Nat → Nat → Int32} {G : GG} : Mono (spV0 F G) := by
  intro as h Q Q' hQ hs
  unfold spV0 at hs ⊢
  split at hs
  · obtain ⟨S, law, h1, h2⟩ := hs
    exact ⟨S, law, h1, fun h' a c => hQ _ _ (h2 h' a c)⟩
  · exact hs.elim
theorem moV1 {F : (Nat → Nat → Int32) → Int32 → Nat → Nat → Int32} {G : GG} : Mono (spV1 F G) := by
  intro as h Q Q' hQ hs
  unfold spV1 at hs ⊢
  split at hs
  · obtain ⟨S, law, h1, h2⟩ := hs
    exact ⟨S, law, h1, fun h' a c => hQ _ _ (h2 h' a c)⟩
  · exact hs.elim
theorem rcV0 {F : (Nat → Nat → Int32) → Nat → Nat → Int32} {G : GG} : ∀ as h Q, as.length = 0 + 1 → spV0 F G as h Q → ∃ b as', as = .ref b :: as' ∧ ∃ fs, h b = some (.inr (1, fs)) := by
  intro as h Q _ hs
  unfold spV0 at hs
  split at hs
  · obtain ⟨S, law, h1, h2⟩ := hs
    exact ⟨_, _, rfl, wood_recv h1⟩
  · exact hs.elim
theorem rcV1 {F : (Nat → Nat → Int32) → Int32 → Nat → Nat → Int32} {G : GG} : ∀ as h Q, as.length = 1 + 1 → spV1 F G as h Q → ∃ b as', as = .ref b :: as' ∧ ∃ fs, h b = some (.inr (1, fs)) := by
  intro as h Q _ hs
  unfold spV1 at hs
  split at hs
  · obtain ⟨S, law, h1, h2⟩ := hs
    exact ⟨_, _, rfl, wood_recv h1⟩
  · exact hs.elim
def clampI (lo hi x : Int32) : Int32 := maxI lo (minI hi x)
/-- the damp of the first k cells has changed -/
def dampF (S : Nat → Nat → Int32) (more : Int32) (k : Nat) : Nat → Int32 := fun j => if j < k ∧ isCellB S (nI j) = true then clampI 0 99 (S 1 j + more) else S 1 j
def allDampF (S : Nat → Nat → Int32) (more : Int32) : Nat → Nat → Int32 := setF S 1 (dampF S more 64)
theorem dampF_0 (S : Nat → Nat → Int32) (more : Int32) : dampF S more 0 = S 1 := by
  funext j; simp [dampF]
theorem dampF_n {S : Nat → Nat → Int32} {more : Int32} {c : Nat} (h : isCellB S (nI c) = false) : dampF S more (c + 1) = dampF S more c := by
  funext j
  unfold dampF
  by_cases e : j = c
  · subst e; simp [h]
  · simp only [show (j < c + 1) ↔ (j < c) from by omega]
theorem dampF_t {S : Nat → Nat → Int32} {more : Int32} {c : Nat} (h : isCellB S (nI c) = true) : upd (dampF S more c) c (clampI 0 99 (dampF S more c c + more)) = dampF S more (c + 1) := by
  have e0 : dampF S more c c = S 1 c := by simp [dampF]
  rw [e0]
  funext j
  by_cases e : j = c
  · subst e; rw [pk_us]; simp [dampF, h]
  · rw [pk_un e]
    unfold dampF
    simp only [show (j < c + 1) ↔ (j < c) from by omega]
theorem c_allDamp : CtS mX1_allDamp 3 (spV1 allDampF) := by
  intro l G d hd as h z Q hs
  match as, hs with
  | [.ref b, .int more], hs =>
    obtain ⟨S, law, hw0, hs⟩ := hs
    refine Ct.of rfl (Nat.le_of_ble_eq_true rfl) rfl ?_
    have loop : ∀ (n c : Nat) (i : Int32) (h1 : AH), c + n = 64 → i = nI c → IsWood G b (setF S 1 (dampF S more c)) law h1 → Fr b h h1 → X l G mX1_allDamp (rmK d 0 0) (TGm G (fun v h' z' => Q v h' ∧ z' = z) 0 0) 0 0 2 [(0, .ref b), (1, .int more), (2, .int i)] [] h1 z := by
      intro n
      induction n using Nat.strongRecOn with
      | _ n ih =>
      intro c i h1 hc hi hw hf
      subst hi
      refine X.w wkX1_allDamp (fcons (ceV c_isCell moW1 ckX1_113 rfl rcW1 (by omega) rfl) (fcons (ceMin ckX1_153 q861 (by omega)) (fcons (ceMax ckX1_158 q862 (by omega)) fnil))) [2] 25 rfl ?_
      refine And.intro (fun b5 => ?_) (fun b5 => ?_)
      · simp only [cP, cN, bI_0, Bool.not_eq_false, lt_nle, Decidable.not_not] at b5
        have hc2 : 64 ≤ c := (le64 (by omega) (by decide)).mp b5
        have e : c = 64 := by omega
        subst e
        exact And.intro (hs _ hw hf) rfl
      · simp only [cP, cN, bI_0, Bool.not_eq_false, lt_nle, Decidable.not_not] at b5
        refine Exists.intro _ (Exists.intro law (And.intro hw ?_))
        refine And.intro (fun b13 => ?_) (fun b13 => ?_)
        · simp only [cP, cN, bI_0, Bool.not_eq_false, lt_nle, Decidable.not_not] at b13
          have hc2 := nle64 (k := 64) b5 (by omega) (by decide)
          refine ih (n - 1) (by omega) (c + 1) _ _ (by omega) (nI_1 c) ?_ hf
          rw [dampF_n (S := S) b13]
          exact hw
        · simp only [cP, cN, bI_0, Bool.not_eq_false, lt_nle, Decidable.not_not] at b13
          refine gF (by first | assumption | exact hw.obj | exact hw.arr _ rfl) ?_
          refine gF (by first | assumption | exact hw.obj | exact hw.arr _ rfl) ?_
          refine gA (by first | assumption | exact hw.obj | exact hw.arr _ rfl) (ixN (nle64 (k := 64) b5 (by omega) (by decide)) (by decide)) ?_
          refine sA (by first | assumption | exact hw.obj | exact hw.arr _ rfl) (ixN (nle64 (k := 64) b5 (by omega) (by decide)) (by decide)) (by first | assumption | exact hw.N | exact hw.No _) ?_
          intro h38 e38
          have hc2 := nle64 (k := 64) b5 (by omega) (by decide)
          refine ih (n - 1) (by omega) (c + 1) _ _ (by omega) (nI_1 c) ?_ (hf.uA e38 (by decide))
          have h9 := hw.uA e38 (Or.inl ⟨rfl, rfl⟩)
          rw [setF_setF] at h9
          rw [← dampF_t (S := S) b13]
          exact h9
    refine X.w wkX1_allDamp fnil [2] 4 rfl ?_
    exact loop 64 0 _ _ rfl rfl (by rw [dampF_0, setF_self]; exact hw0) Fr.rf
